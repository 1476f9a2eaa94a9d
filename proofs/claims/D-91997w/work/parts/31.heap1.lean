def vX9_isNew (cA : Nat → ClassId) (a0 : Nat) (V : VS) (Post : Int32 → VS → Prop) : Prop := bO (vO V [7] a0) (fun o_3 => vX9_isRight cA a0 V (fun r_1 V_2 => (r_1 = 0 → (Post (0 : Int32) V_2)) ∧ (¬ (r_1 = 0) → (bO (gR V_2 [7] a0 1) (fun p_6 => bO (gI V_2 [7] a0 4) (fun g_8 => bO p_6 (fun n_10 => bO (vO V_2 [5] n_10) (fun o_13 => vX6_isPolice cA n_10 g_8 V_2 (fun r_11 V_12 => (r_11 = 0 → (bO (gR V_12 [7] a0 1) (fun p_16 => bO (gI V_12 [7] a0 4) (fun g_18 => bO p_16 (fun n_20 => bO (vO V_12 [5] n_20) (fun o_23 => vX6_isPublic cA n_20 g_18 V_12 (fun r_21 V_22 => (r_21 = 0 → (Post (1 : Int32) V_22)) ∧ (¬ (r_21 = 0) → (Post (0 : Int32) V_22))))))))) ∧ (¬ (r_11 = 0) → (Post (0 : Int32) V_12)))))))))))
abbrev rX9_isNew : Room := { frames := 1, cells := 0, slots := 0, locals := 21 }
theorem cdX9_isNew : yX9_isNew.cls = RX9 ∧ yX9_isNew.cls ≠ "java/lang/invoke/MethodHandle" ∧ yX9_isNew.cls ≠ "java/lang/invoke/VarHandle" ∧ (parseMethodDescriptor yX9_isNew.desc).map (fun d => d.parameters.length) = some 0 := by decide +kernel
set_option maxHeartbeats 4000000 in
set_option maxRecDepth 100000 in
theorem mvX9_isNew (l : Launch) {D : va_G} {cA : Nat → ClassId} {A : Nat → Prop} (a0 : Nat) (V : VS) (Post : Int32 → VS → Prop) (h : vX9_isNew cA a0 V Post) : Met l yX9_isNew (ws_ yX9_isNew cX9_isNew 1 (some (.boolean))) rX9_isNew (vPc [.ref a0] D cA A V) (va_Qi Post (vB D A) A) 0 0 A := by
  refine vstM (own := RX9) (by decide) rfl (Nat.le_of_ble_eq_true rfl) ?_
  intro p e s m args below meth c ls X hret hV hS hl
  obtain ⟨S, hK, hG, hA, hnm, hlocks⟩ := X
  have hx := S.1
  have hb := S.2.1
  have hl : lv_has ls 1 [(0, .ref a0)] := hl
  unfold vX9_isNew at h
  refine lv_aload_n hx hb dX9_isNew_0 rfl (lv_at hl 0 rfl) ?_
  obtain ⟨o_3, e_4, h⟩ := bO_e h
  refine vk_i (vr_V (As := []) (rest := []) S hK hG hA hV hS e_4 rfl (mvX9_isRight l a0 V _ h) (cwV 0 S.2.2.2.2 (lw_V q1080 q1041 q1042 q162 q1043) rfl rfl rfl cdX9_isRight ⟨Nat.le_of_ble_eq_true rfl, Nat.le_of_ble_eq_true rfl⟩) rfl hl.1 (Nat.le_of_ble_eq_true rfl) dX9_isNew_1 ⟨Nat.le_refl _, Nat.le_refl _⟩) hS (fun r_1 V_2 H locs h hV hS => ?_)
  refine lv_if_eq (tgt := 39) hx hb dX9_isNew_4 (by decide) (fun c_5 => ?_) (fun c_5 => ?_)
  · replace h := h.1 c_5
    refine lv_iconst hx hb dX9_isNew_39 kc_0 ?_
    exact ve_i S hlocks hret hV hS h (vz_nar vz_0) (Nat.le_refl _) (Nat.le_refl _) dX9_isNew_40
  · replace h := h.2 c_5
    refine lv_aload_n hx hb dX9_isNew_7 rfl (lv_at hl 0 rfl) ?_
    obtain ⟨p_6, e_7, h⟩ := bO_e h
    refine vg_r S hK hV fX9_13 e_7 dX9_isNew_8 ?_
    refine lv_aload_n hx hb dX9_isNew_11 rfl (lv_at hl 0 rfl) ?_
    obtain ⟨g_8, e_9, h⟩ := bO_e h
    refine vg_i S hK hV fX9_26 e_9 dX9_isNew_12 ?_
    obtain ⟨n_10, z_n_10, h9⟩ := bO_e h
    clear h; subst z_n_10; have h := h9; clear h9
    obtain ⟨o_13, e_14, h⟩ := bO_e h
    refine vk_i (vr_V (As := [.int g_8]) (rest := []) S hK hG hA hV hS e_14 rfl (mvX6_isPolice l n_10 g_8 V_2 _ h) (cwV 1 S.2.2.2.2 (lw_V q1094 q1095 q1096 q156 q1097) rfl rfl rfl cdX6_isPolice ⟨Nat.le_of_ble_eq_true rfl, Nat.le_of_ble_eq_true rfl⟩) rfl hl.1 (Nat.le_of_ble_eq_true rfl) dX9_isNew_15 ⟨Nat.le_refl _, Nat.le_refl _⟩) hS (fun r_11 V_12 H locs h hV hS => ?_)
    refine lv_if_ne (tgt := 39) hx hb dX9_isNew_18 (by decide) (fun c_15 => ?_) (fun c_15 => ?_)
    · replace h := h.2 c_15
      refine lv_iconst hx hb dX9_isNew_39 kc_0 ?_
      exact ve_i S hlocks hret hV hS h (vz_nar vz_0) (Nat.le_refl _) (Nat.le_refl _) dX9_isNew_40
    · replace h := h.1 c_15
      refine lv_aload_n hx hb dX9_isNew_21 rfl (lv_at hl 0 rfl) ?_
      obtain ⟨p_16, e_17, h⟩ := bO_e h
      refine vg_r S hK hV fX9_13 e_17 dX9_isNew_22 ?_
      refine lv_aload_n hx hb dX9_isNew_25 rfl (lv_at hl 0 rfl) ?_
      obtain ⟨g_18, e_19, h⟩ := bO_e h
      refine vg_i S hK hV fX9_26 e_19 dX9_isNew_26 ?_
      obtain ⟨n_20, z_n_20, h9⟩ := bO_e h
      clear h; subst z_n_20; have h := h9; clear h9
      obtain ⟨o_23, e_24, h⟩ := bO_e h
      refine vk_i (vr_V (As := [.int g_18]) (rest := []) S hK hG hA hV hS e_24 rfl (mvX6_isPublic l n_20 g_18 V_12 _ h) (cwV 1 S.2.2.2.2 (lw_V q1081 q1082 q1083 q156 q1084) rfl rfl rfl cdX6_isPublic ⟨Nat.le_of_ble_eq_true rfl, Nat.le_of_ble_eq_true rfl⟩) rfl hl.1 (Nat.le_of_ble_eq_true rfl) dX9_isNew_29 ⟨Nat.le_refl _, Nat.le_refl _⟩) hS (fun r_21 V_22 H locs h hV hS => ?_)
      refine lv_if_ne (tgt := 39) hx hb dX9_isNew_32 (by decide) (fun c_25 => ?_) (fun c_25 => ?_)
      · replace h := h.2 c_25
        refine lv_iconst hx hb dX9_isNew_39 kc_0 ?_
        exact ve_i S hlocks hret hV hS h (vz_nar vz_0) (Nat.le_refl _) (Nat.le_refl _) dX9_isNew_40
      · replace h := h.1 c_25
        refine lv_iconst hx hb dX9_isNew_35 kc_1 ?_
        refine lv_goto (tgt := 40) hx hb dX9_isNew_36 (by decide) ?_
        exact ve_i S hlocks hret hV hS h (vz_nar vz_1) (Nat.le_refl _) (Nat.le_refl _) dX9_isNew_40
def vX1_bitsOf_c89 (cA : Nat → ClassId) (a0 : Nat) (a1 : Int32) (Post : Int32 → VS → Prop) (t0 : Int32) (t1 : Int32) (V : VS) : Prop := ∀ v_36 : Int32, v_36 = t1 ||| t0 → ((v_36 &&& (30 : Int32)) = (2 : Int32) → (Post (v_36 ||| (64 : Int32)) V)) ∧ (¬ ((v_36 &&& (30 : Int32)) = (2 : Int32)) → (Post v_36 V))
def vX1_bitsOf_c75 (cA : Nat → ClassId) (a0 : Nat) (a1 : Int32) (Post : Int32 → VS → Prop) (x2 : Nat) (t0 : Int32) (t1 : Int32) (V : VS) : Prop := bO (vO V [7] x2) (fun o_33 => vX9_isNew cA x2 V (fun r_31 V_32 => (r_31 = 0 → (vX1_bitsOf_c89 cA a0 a1 Post (0 : Int32) (t1 ||| t0) V_32)) ∧ (¬ (r_31 = 0) → (vX1_bitsOf_c89 cA a0 a1 Post (32 : Int32) (t1 ||| t0) V_32))))
def vX1_bitsOf_c61 (cA : Nat → ClassId) (a0 : Nat) (a1 : Int32) (Post : Int32 → VS → Prop) (x2 : Nat) (t0 : Int32) (t1 : Int32) (V : VS) : Prop := bO (vO V [7] x2) (fun o_28 => vX9_isOff cA x2 V (fun r_26 V_27 => (r_26 = 0 → (vX1_bitsOf_c75 cA a0 a1 Post x2 (0 : Int32) (t1 ||| t0) V_27)) ∧ (¬ (r_26 = 0) → (vX1_bitsOf_c75 cA a0 a1 Post x2 (16 : Int32) (t1 ||| t0) V_27))))
def vX1_bitsOf_c47 (cA : Nat → ClassId) (a0 : Nat) (a1 : Int32) (Post : Int32 → VS → Prop) (x2 : Nat) (t0 : Int32) (t1 : Int32) (V : VS) : Prop := bO (vO V [7] x2) (fun o_23 => vX9_isPublic cA x2 V (fun r_21 V_22 => (r_21 = 0 → (vX1_bitsOf_c61 cA a0 a1 Post x2 (0 : Int32) (t1 ||| t0) V_22)) ∧ (¬ (r_21 = 0) → (vX1_bitsOf_c61 cA a0 a1 Post x2 (8 : Int32) (t1 ||| t0) V_22))))
def vX1_bitsOf_c32 (cA : Nat → ClassId) (a0 : Nat) (a1 : Int32) (Post : Int32 → VS → Prop) (x2 : Nat) (t0 : Int32) (t1 : Int32) (V : VS) : Prop := bO (vO V [1] a0) (fun o_18 => vX1_ledBy cA a0 a1 V (fun r_16 V_17 => (r_16 = (-1 : Int32) → (vX1_bitsOf_c47 cA a0 a1 Post x2 (0 : Int32) (t1 ||| t0) V_17)) ∧ (¬ (r_16 = (-1 : Int32)) → (vX1_bitsOf_c47 cA a0 a1 Post x2 (4 : Int32) (t1 ||| t0) V_17))))
def vX1_bitsOf_c18 (cA : Nat → ClassId) (a0 : Nat) (a1 : Int32) (Post : Int32 → VS → Prop) (x2 : Nat) (t0 : Int32) (V : VS) : Prop := bO (vO V [1] a0) (fun o_13 => vX1_isFirst cA a0 a1 (0 : Int32) V (fun r_11 V_12 => (r_11 = 0 → (vX1_bitsOf_c32 cA a0 a1 Post x2 (0 : Int32) t0 V_12)) ∧ (¬ (r_11 = 0) → (vX1_bitsOf_c32 cA a0 a1 Post x2 (2 : Int32) t0 V_12))))
def vX1_bitsOf (cA : Nat → ClassId) (a0 : Nat) (a1 : Int32) (V : VS) (Post : Int32 → VS → Prop) : Prop := bO (vO V [1] a0) (fun o_3 => vX1_aWord cA a0 a1 V (fun p_1 V_2 => bO p_1 (fun n_5 => bO (vO V_2 [7] n_5) (fun o_8 => vX9_isRight cA n_5 V_2 (fun r_6 V_7 => (r_6 = 0 → (vX1_bitsOf_c18 cA a0 a1 Post n_5 (0 : Int32) V_7)) ∧ (¬ (r_6 = 0) → (vX1_bitsOf_c18 cA a0 a1 Post n_5 (1 : Int32) V_7)))))))
abbrev rX1_bitsOf : Room := { frames := 6, cells := 0, slots := 0, locals := 136 }
theorem cdX1_bitsOf : yX1_bitsOf.cls = RX1 ∧ yX1_bitsOf.cls ≠ "java/lang/invoke/MethodHandle" ∧ yX1_bitsOf.cls ≠ "java/lang/invoke/VarHandle" ∧ (parseMethodDescriptor yX1_bitsOf.desc).map (fun d => d.parameters.length) = some 1 := by decide +kernel
set_option maxHeartbeats 4000000 in
set_option maxRecDepth 100000 in
theorem mvX1_bitsOf (l : Launch) {D : va_G} {cA : Nat → ClassId} {A : Nat → Prop} (a0 : Nat) (a1 : Int32) (V : VS) (Post : Int32 → VS → Prop) (h : vX1_bitsOf cA a0 a1 V Post) : Met l yX1_bitsOf (ws_ yX1_bitsOf cX1_bitsOf 4 (some (.int))) rX1_bitsOf (vPc [.ref a0, .int a1] D cA A V) (va_Qi Post (vB D A) A) 0 0 A := by
  refine vstM (own := RX1) (by decide) rfl (Nat.le_of_ble_eq_true rfl) ?_
  intro p e s m args below meth c ls X hret hV hS hl
  obtain ⟨S, hK, hG, hA, hnm, hlocks⟩ := X
  have hx := S.1
  have hb := S.2.1
  have hl : lv_has ls 4 [(0, .ref a0), (1, .int a1)] := hl
  have C89 : ∀ (t0 : Int32) (t1 : Int32) (V : VS) (H : Heap) (locs : List Loc) (ls : Array Slot), HV D A V H → va_S A s.heap H locs → lv_has ls 4 [(0, .ref a0), (1, .int a1)] → vX1_bitsOf_c89 cA a0 a1 Post t0 t1 V → W p l e rX1_bitsOf s m args below meth c H locs 0 0 (MQ below (va_Qi Post (vB D A) A) args s 0 0 A) (F0 m 89 ls [.int t0, .int t1]) := by
    intro t0 t1 V H locs ls hV hS hl h
    unfold vX1_bitsOf_c89 at h
    refine lv_ior hx hb dX1_bitsOf_89 ?_
    refine lv_topi (fun v_36 e_v_36 => ?_)
    replace h := h v_36 e_v_36
    refine lv_istore_n (lv' := [(3, .int v_36), (0, .ref a0), (1, .int a1)]) hx hb dX1_bitsOf_90 rfl hl (by decide) rfl (fun ls hl => ?_)
    refine lv_iload_n hx hb dX1_bitsOf_91 rfl (lv_at hl 0 rfl) ?_
    refine lv_bipush hx hb dX1_bitsOf_92 kb_30 ?_
    refine lv_iand hx hb dX1_bitsOf_94 ?_
    refine lv_iconst hx hb dX1_bitsOf_95 kc_2 ?_
    refine lv_icmp_ne (tgt := 106) hx hb dX1_bitsOf_96 (by decide) (fun c_37 => ?_) (fun c_37 => ?_)
    · replace h := h.2 c_37
      refine lv_iload_n hx hb dX1_bitsOf_106 rfl (lv_at hl 0 rfl) ?_
      exact ve_i S hlocks hret hV hS h rfl (Nat.le_refl _) (Nat.le_refl _) dX1_bitsOf_107
    · replace h := h.1 c_37
      refine lv_iload_n hx hb dX1_bitsOf_99 rfl (lv_at hl 0 rfl) ?_
      refine lv_bipush hx hb dX1_bitsOf_100 kb_64 ?_
      refine lv_ior hx hb dX1_bitsOf_102 ?_
      refine lv_goto (tgt := 107) hx hb dX1_bitsOf_103 (by decide) ?_
      exact ve_i S hlocks hret hV hS h rfl (Nat.le_refl _) (Nat.le_refl _) dX1_bitsOf_107
  have C75 : ∀ (x2 : Nat) (t0 : Int32) (t1 : Int32) (V : VS) (H : Heap) (locs : List Loc) (ls : Array Slot), HV D A V H → va_S A s.heap H locs → lv_has ls 4 [(0, .ref a0), (1, .int a1), (2, .ref x2)] → vX1_bitsOf_c75 cA a0 a1 Post x2 t0 t1 V → W p l e rX1_bitsOf s m args below meth c H locs 0 0 (MQ below (va_Qi Post (vB D A) A) args s 0 0 A) (F0 m 75 ls [.int t0, .int t1]) := by
    intro x2 t0 t1 V H locs ls hV hS hl h
    unfold vX1_bitsOf_c75 at h
    refine lv_ior hx hb dX1_bitsOf_75 ?_
    refine lv_aload_n hx hb dX1_bitsOf_76 rfl (lv_at hl 2 rfl) ?_
    obtain ⟨o_33, e_34, h⟩ := bO_e h
    refine vk_i (vr_V (As := []) (rest := [.int (t1 ||| t0)]) S hK hG hA hV hS e_34 rfl (mvX9_isNew l x2 V _ h) (cwV 0 S.2.2.2.2 (lw_V q1098 q1099 q1100 q162 q1101) rfl rfl rfl cdX9_isNew ⟨Nat.le_of_ble_eq_true rfl, Nat.le_of_ble_eq_true rfl⟩) rfl hl.1 (Nat.le_of_ble_eq_true rfl) dX1_bitsOf_77 ⟨Nat.le_refl _, Nat.le_refl _⟩) hS (fun r_31 V_32 H locs h hV hS => ?_)
    refine lv_if_eq (tgt := 88) hx hb dX1_bitsOf_80 (by decide) (fun c_35 => ?_) (fun c_35 => ?_)
    · replace h := h.1 c_35
      refine lv_iconst hx hb dX1_bitsOf_88 kc_0 ?_
      exact C89 _ _ _ _ _ _ hV hS (lv_sub hl [0, 1] rfl) h
    · replace h := h.2 c_35
      refine lv_bipush hx hb dX1_bitsOf_83 kb_32 ?_
      refine lv_goto (tgt := 89) hx hb dX1_bitsOf_85 (by decide) ?_
      exact C89 _ _ _ _ _ _ hV hS (lv_sub hl [0, 1] rfl) h
  have C61 : ∀ (x2 : Nat) (t0 : Int32) (t1 : Int32) (V : VS) (H : Heap) (locs : List Loc) (ls : Array Slot), HV D A V H → va_S A s.heap H locs → lv_has ls 4 [(0, .ref a0), (1, .int a1), (2, .ref x2)] → vX1_bitsOf_c61 cA a0 a1 Post x2 t0 t1 V → W p l e rX1_bitsOf s m args below meth c H locs 0 0 (MQ below (va_Qi Post (vB D A) A) args s 0 0 A) (F0 m 61 ls [.int t0, .int t1]) := by
    intro x2 t0 t1 V H locs ls hV hS hl h
    unfold vX1_bitsOf_c61 at h
    refine lv_ior hx hb dX1_bitsOf_61 ?_
    refine lv_aload_n hx hb dX1_bitsOf_62 rfl (lv_at hl 2 rfl) ?_
    obtain ⟨o_28, e_29, h⟩ := bO_e h
    refine vk_i (vr_V (As := []) (rest := [.int (t1 ||| t0)]) S hK hG hA hV hS e_29 rfl (mvX9_isOff l x2 V _ h) (cwV 0 S.2.2.2.2 (lw_V q1085 q1086 q1087 q162 q1088) rfl rfl rfl cdX9_isOff ⟨Nat.le_of_ble_eq_true rfl, Nat.le_of_ble_eq_true rfl⟩) rfl hl.1 (Nat.le_of_ble_eq_true rfl) dX1_bitsOf_63 ⟨Nat.le_refl _, Nat.le_refl _⟩) hS (fun r_26 V_27 H locs h hV hS => ?_)
    refine lv_if_eq (tgt := 74) hx hb dX1_bitsOf_66 (by decide) (fun c_30 => ?_) (fun c_30 => ?_)
    · replace h := h.1 c_30
      refine lv_iconst hx hb dX1_bitsOf_74 kc_0 ?_
      exact C75 _ _ _ _ _ _ _ hV hS (lv_sub hl [0, 1, 2] rfl) h
    · replace h := h.2 c_30
      refine lv_bipush hx hb dX1_bitsOf_69 kb_16 ?_
      refine lv_goto (tgt := 75) hx hb dX1_bitsOf_71 (by decide) ?_
      exact C75 _ _ _ _ _ _ _ hV hS (lv_sub hl [0, 1, 2] rfl) h
  have C47 : ∀ (x2 : Nat) (t0 : Int32) (t1 : Int32) (V : VS) (H : Heap) (locs : List Loc) (ls : Array Slot), HV D A V H → va_S A s.heap H locs → lv_has ls 4 [(0, .ref a0), (1, .int a1), (2, .ref x2)] → vX1_bitsOf_c47 cA a0 a1 Post x2 t0 t1 V → W p l e rX1_bitsOf s m args below meth c H locs 0 0 (MQ below (va_Qi Post (vB D A) A) args s 0 0 A) (F0 m 47 ls [.int t0, .int t1]) := by
    intro x2 t0 t1 V H locs ls hV hS hl h
    unfold vX1_bitsOf_c47 at h
    refine lv_ior hx hb dX1_bitsOf_47 ?_
    refine lv_aload_n hx hb dX1_bitsOf_48 rfl (lv_at hl 2 rfl) ?_
    obtain ⟨o_23, e_24, h⟩ := bO_e h
    refine vk_i (vr_V (As := []) (rest := [.int (t1 ||| t0)]) S hK hG hA hV hS e_24 rfl (mvX9_isPublic l x2 V _ h) (cwV 0 S.2.2.2.2 (lw_V q1076 q1077 q1078 q162 q1079) rfl rfl rfl cdX9_isPublic ⟨Nat.le_of_ble_eq_true rfl, Nat.le_of_ble_eq_true rfl⟩) rfl hl.1 (Nat.le_of_ble_eq_true rfl) dX1_bitsOf_49 ⟨Nat.le_refl _, Nat.le_refl _⟩) hS (fun r_21 V_22 H locs h hV hS => ?_)
    refine lv_if_eq (tgt := 60) hx hb dX1_bitsOf_52 (by decide) (fun c_25 => ?_) (fun c_25 => ?_)
    · replace h := h.1 c_25
      refine lv_iconst hx hb dX1_bitsOf_60 kc_0 ?_
      exact C61 _ _ _ _ _ _ _ hV hS (lv_sub hl [0, 1, 2] rfl) h
    · replace h := h.2 c_25
      refine lv_bipush hx hb dX1_bitsOf_55 kb_8 ?_
      refine lv_goto (tgt := 61) hx hb dX1_bitsOf_57 (by decide) ?_
      exact C61 _ _ _ _ _ _ _ hV hS (lv_sub hl [0, 1, 2] rfl) h
  have C32 : ∀ (x2 : Nat) (t0 : Int32) (t1 : Int32) (V : VS) (H : Heap) (locs : List Loc) (ls : Array Slot), HV D A V H → va_S A s.heap H locs → lv_has ls 4 [(0, .ref a0), (1, .int a1), (2, .ref x2)] → vX1_bitsOf_c32 cA a0 a1 Post x2 t0 t1 V → W p l e rX1_bitsOf s m args below meth c H locs 0 0 (MQ below (va_Qi Post (vB D A) A) args s 0 0 A) (F0 m 32 ls [.int t0, .int t1]) := by
    intro x2 t0 t1 V H locs ls hV hS hl h
    unfold vX1_bitsOf_c32 at h
    refine lv_ior hx hb dX1_bitsOf_32 ?_
    refine lv_aload_n hx hb dX1_bitsOf_33 rfl (lv_at hl 0 rfl) ?_
    refine lv_iload_n hx hb dX1_bitsOf_34 rfl (lv_at hl 1 rfl) ?_
    obtain ⟨o_18, e_19, h⟩ := bO_e h
    refine vk_i (vr_V (As := [.int a1]) (rest := [.int (t1 ||| t0)]) S hK hG hA hV hS e_19 rfl (mvX1_ledBy l a0 a1 V _ h) (cwV 1 S.2.2.2.2 (lw_V q1064 q1066 qs41 q139 q1067) rfl rfl rfl cdX1_ledBy ⟨Nat.le_of_ble_eq_true rfl, Nat.le_of_ble_eq_true rfl⟩) rfl hl.1 (Nat.le_of_ble_eq_true rfl) dX1_bitsOf_35 ⟨Nat.le_refl _, Nat.le_refl _⟩) hS (fun r_16 V_17 H locs h hV hS => ?_)
    refine lv_iconst hx hb dX1_bitsOf_38 kc_m1 ?_
    refine lv_icmp_eq (tgt := 46) hx hb dX1_bitsOf_39 (by decide) (fun c_20 => ?_) (fun c_20 => ?_)
    · replace h := h.1 c_20
      refine lv_iconst hx hb dX1_bitsOf_46 kc_0 ?_
      exact C47 _ _ _ _ _ _ _ hV hS (lv_sub hl [0, 1, 2] rfl) h
    · replace h := h.2 c_20
      refine lv_iconst hx hb dX1_bitsOf_42 kc_4 ?_
      refine lv_goto (tgt := 47) hx hb dX1_bitsOf_43 (by decide) ?_
      exact C47 _ _ _ _ _ _ _ hV hS (lv_sub hl [0, 1, 2] rfl) h
  have C18 : ∀ (x2 : Nat) (t0 : Int32) (V : VS) (H : Heap) (locs : List Loc) (ls : Array Slot), HV D A V H → va_S A s.heap H locs → lv_has ls 4 [(0, .ref a0), (1, .int a1), (2, .ref x2)] → vX1_bitsOf_c18 cA a0 a1 Post x2 t0 V → W p l e rX1_bitsOf s m args below meth c H locs 0 0 (MQ below (va_Qi Post (vB D A) A) args s 0 0 A) (F0 m 18 ls [.int t0]) := by
    intro x2 t0 V H locs ls hV hS hl h
    unfold vX1_bitsOf_c18 at h
    refine lv_aload_n hx hb dX1_bitsOf_18 rfl (lv_at hl 0 rfl) ?_
    refine lv_iload_n hx hb dX1_bitsOf_19 rfl (lv_at hl 1 rfl) ?_
    refine lv_iconst hx hb dX1_bitsOf_20 kc_0 ?_
    obtain ⟨o_13, e_14, h⟩ := bO_e h
    refine vk_i (vr_V (As := [.int a1, .int (0 : Int32)]) (rest := [.int t0]) S hK hG hA hV hS e_14 rfl (mvX1_isFirst l a0 a1 (0 : Int32) V _ h) (cwV 2 S.2.2.2.2 (lw_V q1044 q1046 qs37 q139 q1047) rfl rfl rfl cdX1_isFirst ⟨Nat.le_of_ble_eq_true rfl, Nat.le_of_ble_eq_true rfl⟩) rfl hl.1 (Nat.le_of_ble_eq_true rfl) dX1_bitsOf_21 ⟨Nat.le_refl _, Nat.le_refl _⟩) hS (fun r_11 V_12 H locs h hV hS => ?_)
    refine lv_if_eq (tgt := 31) hx hb dX1_bitsOf_24 (by decide) (fun c_15 => ?_) (fun c_15 => ?_)
    · replace h := h.1 c_15
      refine lv_iconst hx hb dX1_bitsOf_31 kc_0 ?_
      exact C32 _ _ _ _ _ _ _ hV hS (lv_sub hl [0, 1, 2] rfl) h
    · replace h := h.2 c_15
      refine lv_iconst hx hb dX1_bitsOf_27 kc_2 ?_
      refine lv_goto (tgt := 32) hx hb dX1_bitsOf_28 (by decide) ?_
      exact C32 _ _ _ _ _ _ _ hV hS (lv_sub hl [0, 1, 2] rfl) h
  unfold vX1_bitsOf at h
  refine lv_aload_n hx hb dX1_bitsOf_0 rfl (lv_at hl 0 rfl) ?_
  refine lv_iload_n hx hb dX1_bitsOf_1 rfl (lv_at hl 1 rfl) ?_
  obtain ⟨o_3, e_4, h⟩ := bO_e h
  refine vk_q (vr_V (As := [.int a1]) (rest := []) S hK hG hA hV hS e_4 rfl (mvX1_aWord l a0 a1 V _ h) (cwV 1 S.2.2.2.2 (lw_V q1032 q1034 qs35 q139 q1035) rfl rfl rfl cdX1_aWord ⟨Nat.le_of_ble_eq_true rfl, Nat.le_of_ble_eq_true rfl⟩) rfl hl.1 (Nat.le_of_ble_eq_true rfl) dX1_bitsOf_2 ⟨Nat.le_refl _, Nat.le_refl _⟩) hS (fun p_1 V_2 H locs h hV hS => ?_)
  refine lv_astore_nQ (r := p_1) (lv' := [(2, va_rf p_1), (0, .ref a0), (1, .int a1)]) hx hb dX1_bitsOf_5 rfl hl (by decide) rfl (fun ls hl => ?_)
  refine lv_aload_nQ hx hb dX1_bitsOf_6 rfl (lv_at hl 0 rfl) ?_
  obtain ⟨n_5, z_n_5, h9⟩ := bO_e h
  clear h; subst z_n_5; have h := h9; clear h9
  obtain ⟨o_8, e_9, h⟩ := bO_e h
  refine vk_i (vr_V (As := []) (rest := []) S hK hG hA hV hS e_9 rfl (mvX9_isRight l n_5 V_2 _ h) (cwV 0 S.2.2.2.2 (lw_V q1040 q1041 q1042 q162 q1043) rfl rfl rfl cdX9_isRight ⟨Nat.le_of_ble_eq_true rfl, Nat.le_of_ble_eq_true rfl⟩) rfl hl.1 (Nat.le_of_ble_eq_true rfl) dX1_bitsOf_7 ⟨Nat.le_refl _, Nat.le_refl _⟩) hS (fun r_6 V_7 H locs h hV hS => ?_)
  refine lv_if_eq (tgt := 17) hx hb dX1_bitsOf_10 (by decide) (fun c_10 => ?_) (fun c_10 => ?_)
  · replace h := h.1 c_10
    refine lv_iconst hx hb dX1_bitsOf_17 kc_0 ?_
    exact C18 _ _ _ _ _ _ hV hS (lv_sub hl [1, 2, 0] rfl) h
  · replace h := h.2 c_10
    refine lv_iconst hx hb dX1_bitsOf_13 kc_1 ?_
    refine lv_goto (tgt := 18) hx hb dX1_bitsOf_14 (by decide) ?_
    exact C18 _ _ _ _ _ _ hV hS (lv_sub hl [1, 2, 0] rfl) h
def vX1_word (cA : Nat → ClassId) (a0 : Nat) (a1 : Int32) (V : VS) (Post : Int32 → VS → Prop) : Prop := bO (vO V [1] a0) (fun o_3 => vX1_aWord cA a0 a1 V (fun p_1 V_2 => (p_1 = none → (Post (-1 : Int32) V_2)) ∧ (∀ n_5 : Nat, p_1 = some n_5 → (bO (vO V_2 [1] a0) (fun o_8 => vX1_bitsOf cA a0 a1 V_2 (fun r_6 V_7 => Post r_6 V_7))))))
abbrev rX1_word : Room := { frames := 7, cells := 0, slots := 0, locals := 159 }
theorem cdX1_word : yX1_word.cls = RX1 ∧ yX1_word.cls ≠ "java/lang/invoke/MethodHandle" ∧ yX1_word.cls ≠ "java/lang/invoke/VarHandle" ∧ (parseMethodDescriptor yX1_word.desc).map (fun d => d.parameters.length) = some 1 := by decide +kernel
set_option maxHeartbeats 4000000 in
set_option maxRecDepth 100000 in
theorem mvX1_word (l : Launch) {D : va_G} {cA : Nat → ClassId} {A : Nat → Prop} (a0 : Nat) (a1 : Int32) (V : VS) (Post : Int32 → VS → Prop) (h : vX1_word cA a0 a1 V Post) : Met l yX1_word (ws_ yX1_word cX1_word 2 (some (.int))) rX1_word (vPc [.ref a0, .int a1] D cA A V) (va_Qi Post (vB D A) A) 0 0 A := by
  refine vstM (own := RX1) (by decide) rfl (Nat.le_of_ble_eq_true rfl) ?_
  intro p e s m args below meth c ls X hret hV hS hl
  obtain ⟨S, hK, hG, hA, hnm, hlocks⟩ := X
  have hx := S.1
  have hb := S.2.1
  have hl : lv_has ls 2 [(0, .ref a0), (1, .int a1)] := hl
  unfold vX1_word at h
  refine lv_aload_n hx hb dX1_word_0 rfl (lv_at hl 0 rfl) ?_
  refine lv_iload_n hx hb dX1_word_1 rfl (lv_at hl 1 rfl) ?_
  obtain ⟨o_3, e_4, h⟩ := bO_e h
  refine vk_q (vr_V (As := [.int a1]) (rest := []) S hK hG hA hV hS e_4 rfl (mvX1_aWord l a0 a1 V _ h) (cwV 1 S.2.2.2.2 (lw_V q1032 q1034 qs35 q139 q1035) rfl rfl rfl cdX1_aWord ⟨Nat.le_of_ble_eq_true rfl, Nat.le_of_ble_eq_true rfl⟩) rfl hl.1 (Nat.le_of_ble_eq_true rfl) dX1_word_2 ⟨Nat.le_refl _, Nat.le_refl _⟩) hS (fun p_1 V_2 H locs h hV hS => ?_)
  rcases p_1 with _ | n_5
  · replace h := h.1 rfl
    refine lv_ifnonnullN hx hb dX1_word_5 ?_
    refine lv_iconst hx hb dX1_word_8 kc_m1 ?_
    refine lv_goto (tgt := 17) hx hb dX1_word_9 (by decide) ?_
    exact ve_i S hlocks hret hV hS h rfl (Nat.le_refl _) (Nat.le_refl _) dX1_word_17
  · replace h := h.2 n_5 rfl
    refine lv_ifnonnull (tgt := 12) hx hb dX1_word_5 (by decide) ?_
    refine lv_aload_n hx hb dX1_word_12 rfl (lv_at hl 0 rfl) ?_
    refine lv_iload_n hx hb dX1_word_13 rfl (lv_at hl 1 rfl) ?_
    obtain ⟨o_8, e_9, h⟩ := bO_e h
    refine vk_i (vr_V (As := [.int a1]) (rest := []) S hK hG hA hV hS e_9 rfl (mvX1_bitsOf l a0 a1 V_2 _ h) (cwV 1 S.2.2.2.2 (lw_V q1036 q1038 qs36 q139 q1039) rfl rfl rfl cdX1_bitsOf ⟨Nat.le_of_ble_eq_true rfl, Nat.le_of_ble_eq_true rfl⟩) rfl hl.1 (Nat.le_of_ble_eq_true rfl) dX1_word_14 ⟨Nat.le_refl _, Nat.le_refl _⟩) hS (fun r_6 V_7 H locs h hV hS => ?_)
    exact ve_i S hlocks hret hV hS h rfl (Nat.le_refl _) (Nat.le_refl _) dX1_word_17
def vX1_led (cA : Nat → ClassId) (a0 : Nat) (a1 : Int32) (V : VS) (Post : Int32 → VS → Prop) : Prop := bO (vO V [1] a0) (fun o_3 => vX1_aWord cA a0 a1 V (fun p_1 V_2 => (p_1 = none → (Post (-1 : Int32) V_2)) ∧ (∀ n_5 : Nat, p_1 = some n_5 → (bO (vO V_2 [1] a0) (fun o_8 => vX1_ledBy cA a0 a1 V_2 (fun r_6 V_7 => Post r_6 V_7))))))
abbrev rX1_led : Room := { frames := 5, cells := 0, slots := 0, locals := 112 }
theorem cdX1_led : yX1_led.cls = RX1 ∧ yX1_led.cls ≠ "java/lang/invoke/MethodHandle" ∧ yX1_led.cls ≠ "java/lang/invoke/VarHandle" ∧ (parseMethodDescriptor yX1_led.desc).map (fun d => d.parameters.length) = some 1 := by decide +kernel
set_option maxHeartbeats 4000000 in
set_option maxRecDepth 100000 in
theorem mvX1_led (l : Launch) {D : va_G} {cA : Nat → ClassId} {A : Nat → Prop} (a0 : Nat) (a1 : Int32) (V : VS) (Post : Int32 → VS → Prop) (h : vX1_led cA a0 a1 V Post) : Met l yX1_led (ws_ yX1_led cX1_led 2 (some (.int))) rX1_led (vPc [.ref a0, .int a1] D cA A V) (va_Qi Post (vB D A) A) 0 0 A := by
  refine vstM (own := RX1) (by decide) rfl (Nat.le_of_ble_eq_true rfl) ?_
  intro p e s m args below meth c ls X hret hV hS hl
  obtain ⟨S, hK, hG, hA, hnm, hlocks⟩ := X
  have hx := S.1
  have hb := S.2.1
  have hl : lv_has ls 2 [(0, .ref a0), (1, .int a1)] := hl
  unfold vX1_led at h
  refine lv_aload_n hx hb dX1_led_0 rfl (lv_at hl 0 rfl) ?_
  refine lv_iload_n hx hb dX1_led_1 rfl (lv_at hl 1 rfl) ?_
  obtain ⟨o_3, e_4, h⟩ := bO_e h
  refine vk_q (vr_V (As := [.int a1]) (rest := []) S hK hG hA hV hS e_4 rfl (mvX1_aWord l a0 a1 V _ h) (cwV 1 S.2.2.2.2 (lw_V q1032 q1034 qs35 q139 q1035) rfl rfl rfl cdX1_aWord ⟨Nat.le_of_ble_eq_true rfl, Nat.le_of_ble_eq_true rfl⟩) rfl hl.1 (Nat.le_of_ble_eq_true rfl) dX1_led_2 ⟨Nat.le_refl _, Nat.le_refl _⟩) hS (fun p_1 V_2 H locs h hV hS => ?_)
  rcases p_1 with _ | n_5
  · replace h := h.1 rfl
    refine lv_ifnonnullN hx hb dX1_led_5 ?_
    refine lv_iconst hx hb dX1_led_8 kc_m1 ?_
    refine lv_goto (tgt := 17) hx hb dX1_led_9 (by decide) ?_
    exact ve_i S hlocks hret hV hS h rfl (Nat.le_refl _) (Nat.le_refl _) dX1_led_17
  · replace h := h.2 n_5 rfl
    refine lv_ifnonnull (tgt := 12) hx hb dX1_led_5 (by decide) ?_
    refine lv_aload_n hx hb dX1_led_12 rfl (lv_at hl 0 rfl) ?_
    refine lv_iload_n hx hb dX1_led_13 rfl (lv_at hl 1 rfl) ?_
    obtain ⟨o_8, e_9, h⟩ := bO_e h
    refine vk_i (vr_V (As := [.int a1]) (rest := []) S hK hG hA hV hS e_9 rfl (mvX1_ledBy l a0 a1 V_2 _ h) (cwV 1 S.2.2.2.2 (lw_V q1064 q1066 qs41 q139 q1067) rfl rfl rfl cdX1_ledBy ⟨Nat.le_of_ble_eq_true rfl, Nat.le_of_ble_eq_true rfl⟩) rfl hl.1 (Nat.le_of_ble_eq_true rfl) dX1_led_14 ⟨Nat.le_refl _, Nat.le_refl _⟩) hS (fun r_6 V_7 H locs h hV hS => ?_)
    exact ve_i S hlocks hret hV hS h rfl (Nat.le_refl _) (Nat.le_refl _) dX1_led_17
def vX1_words_c69 (cA : Nat → ClassId) (a0 : Nat) (a1 : Int32) (a2 : Int32) (k25 : Int32 → Int32 → VS → Prop) (Post : Int32 → VS → Prop) (x4 : Int32) (t0 : Int32) (t1 : Int32) (V : VS) : Prop := ∀ v_24 : Int32, v_24 = t1 + t0 → ∀ v_25 : Int32, v_25 = x4 + (1 : Int32) → k25 v_24 v_25 V
def vX1_words_c68 (cA : Nat → ClassId) (a0 : Nat) (a1 : Int32) (a2 : Int32) (k25 : Int32 → Int32 → VS → Prop) (Post : Int32 → VS → Prop) (x4 : Int32) (t0 : Int32) (V : VS) : Prop := vX1_words_c69 cA a0 a1 a2 k25 Post x4 (0 : Int32) t0 V
def vX1_words_l25 (cA : Nat → ClassId) (a0 : Nat) (a1 : Int32) (a2 : Int32) (Post : Int32 → VS → Prop) : Nat → Int32 → Int32 → VS → Prop
  | 0, _, _, _ => False
  | n + 1, x3, x4, V => bO (gR V [1] a0 11) (fun p_8 => bO p_8 (fun n_10 => bO (gR V [3] n_10 2) (fun p_11 => bO p_11 (fun n_13 => bO (vO V [14] n_13) (fun o_16 => vJ2_size cA n_13 V (fun r_14 V_15 => (r_14 ≤ x4 → (Post x3 V_15)) ∧ (¬ (r_14 ≤ x4) → (bO (vO V_15 [1] a0) (fun o_21 => vX1_word_2 cA a0 x4 a1 (-1 : Int32) V_15 (fun p_19 V_20 => (p_19 = none → (vX1_words_c68 cA a0 a1 a2 (vX1_words_l25 cA a0 a1 a2 Post n) Post x4 x3 V_20)) ∧ (∀ n_23 : Nat, p_19 = some n_23 → (bO (vO V_20 [1] a0) (fun o_28 => vX1_bitsOf cA a0 x4 V_20 (fun r_26 V_27 => ((r_26 &&& a2) = a2 → (vX1_words_c69 cA a0 a1 a2 (vX1_words_l25 cA a0 a1 a2 Post n) Post x4 (1 : Int32) x3 V_27)) ∧ (¬ ((r_26 &&& a2) = a2) → (vX1_words_c68 cA a0 a1 a2 (vX1_words_l25 cA a0 a1 a2 Post n) Post x4 x3 V_27))))))))))))))))
def vX1_words (cA : Nat → ClassId) (a0 : Nat) (a1 : Int32) (a2 : Int32) (V : VS) (Post : Int32 → VS → Prop) : Prop := bO (vO V [1] a0) (fun o_3 => vX1_isTeller cA a0 a1 V (fun r_1 V_2 => (r_1 = 0 → (Post (-1 : Int32) V_2)) ∧ (¬ (r_1 = 0) → (w1_in a2 (1 : Int32) (127 : Int32) (fun r_6 => (r_6 = 0 → (Post (-1 : Int32) V_2)) ∧ (¬ (r_6 = 0) → (∃ f, vX1_words_l25 cA a0 a1 a2 Post f (0 : Int32) (0 : Int32) V_2)))))))
abbrev rX1_words : Room := { frames := 7, cells := 0, slots := 0, locals := 159 }
theorem cdX1_words : yX1_words.cls = RX1 ∧ yX1_words.cls ≠ "java/lang/invoke/MethodHandle" ∧ yX1_words.cls ≠ "java/lang/invoke/VarHandle" ∧ (parseMethodDescriptor yX1_words.desc).map (fun d => d.parameters.length) = some 2 := by decide +kernel
set_option maxHeartbeats 4000000 in
set_option maxRecDepth 100000 in
theorem mvX1_words (l : Launch) {D : va_G} {cA : Nat → ClassId} {A : Nat → Prop} (a0 : Nat) (a1 : Int32) (a2 : Int32) (V : VS) (Post : Int32 → VS → Prop) (h : vX1_words cA a0 a1 a2 V Post) : Met l yX1_words (ws_ yX1_words cX1_words 5 (some (.int))) rX1_words (vPc [.ref a0, .int a1, .int a2] D cA A V) (va_Qi Post (vB D A) A) 0 0 A := by
  refine vstM (own := RX1) (by decide) rfl (Nat.le_of_ble_eq_true rfl) ?_
  intro p e s m args below meth c ls X hret hV hS hl
  obtain ⟨S, hK, hG, hA, hnm, hlocks⟩ := X
  have hx := S.1
  have hb := S.2.1
  have hl : lv_has ls 5 [(0, .ref a0), (1, .int a1), (2, .int a2)] := hl
  have C69 : ∀ (k25 : Int32 → Int32 → VS → Prop) (K25 : (∀ (x3 : Int32) (x4 : Int32) (V : VS) (H : Heap) (locs : List Loc) (ls : Array Slot), HV D A V H → va_S A s.heap H locs → lv_has ls 5 [(0, .ref a0), (1, .int a1), (2, .int a2), (3, .int x3), (4, .int x4)] → k25 x3 x4 V → W p l e rX1_words s m args below meth c H locs 0 0 (MQ below (va_Qi Post (vB D A) A) args s 0 0 A) (F0 m 25 ls []))), ∀ (x4 : Int32) (t0 : Int32) (t1 : Int32) (V : VS) (H : Heap) (locs : List Loc) (ls : Array Slot), HV D A V H → va_S A s.heap H locs → lv_has ls 5 [(0, .ref a0), (1, .int a1), (2, .int a2), (4, .int x4)] → vX1_words_c69 cA a0 a1 a2 k25 Post x4 t0 t1 V → W p l e rX1_words s m args below meth c H locs 0 0 (MQ below (va_Qi Post (vB D A) A) args s 0 0 A) (F0 m 69 ls [.int t0, .int t1]) := by
    intro k25 K25
    intro x4 t0 t1 V H locs ls hV hS hl h
    unfold vX1_words_c69 at h
    refine lv_iadd hx hb dX1_words_69 ?_
    refine lv_topi (fun v_24 e_v_24 => ?_)
    replace h := h v_24 e_v_24
    refine lv_istore_n (lv' := [(3, .int v_24), (0, .ref a0), (1, .int a1), (2, .int a2), (4, .int x4)]) hx hb dX1_words_70 rfl hl (by decide) rfl (fun ls hl => ?_)
    obtain ⟨v_25, e_v_25⟩ : ∃ y : Int32, y = x4 + (1 : Int32) := ⟨_, rfl⟩
    replace h := h v_25 e_v_25
    refine lv_iinc (v := v_25) (lv' := [(4, .int v_25), (3, .int v_24), (0, .ref a0), (1, .int a1), (2, .int a2)]) hx hb dX1_words_71 hl (k := 4) rfl (by rw [kc_1, e_v_25]) (by decide) rfl (fun ls hl => ?_)
    refine lv_goto (tgt := 25) hx hb dX1_words_74 (by decide) ?_
    exact K25 _ _ _ _ _ _ hV hS (lv_sub hl [2, 3, 4, 1, 0] rfl) h
  have C68 : ∀ (k25 : Int32 → Int32 → VS → Prop) (K25 : (∀ (x3 : Int32) (x4 : Int32) (V : VS) (H : Heap) (locs : List Loc) (ls : Array Slot), HV D A V H → va_S A s.heap H locs → lv_has ls 5 [(0, .ref a0), (1, .int a1), (2, .int a2), (3, .int x3), (4, .int x4)] → k25 x3 x4 V → W p l e rX1_words s m args below meth c H locs 0 0 (MQ below (va_Qi Post (vB D A) A) args s 0 0 A) (F0 m 25 ls []))), ∀ (x4 : Int32) (t0 : Int32) (V : VS) (H : Heap) (locs : List Loc) (ls : Array Slot), HV D A V H → va_S A s.heap H locs → lv_has ls 5 [(0, .ref a0), (1, .int a1), (2, .int a2), (4, .int x4)] → vX1_words_c68 cA a0 a1 a2 k25 Post x4 t0 V → W p l e rX1_words s m args below meth c H locs 0 0 (MQ below (va_Qi Post (vB D A) A) args s 0 0 A) (F0 m 68 ls [.int t0]) := by
    intro k25 K25
    intro x4 t0 V H locs ls hV hS hl h
    unfold vX1_words_c68 at h
    refine lv_iconst hx hb dX1_words_68 kc_0 ?_
    exact C69 _ K25 _ _ _ _ _ _ _ hV hS (lv_sub hl [0, 1, 2, 3] rfl) h
  have L25 : ∀ (n : Nat) (x3 : Int32) (x4 : Int32) (V : VS) (H : Heap) (locs : List Loc) (ls : Array Slot), HV D A V H → va_S A s.heap H locs → lv_has ls 5 [(0, .ref a0), (1, .int a1), (2, .int a2), (3, .int x3), (4, .int x4)] → vX1_words_l25 cA a0 a1 a2 Post n x3 x4 V → W p l e rX1_words s m args below meth c H locs 0 0 (MQ below (va_Qi Post (vB D A) A) args s 0 0 A) (F0 m 25 ls []) := by
    intro n
    induction n with
    | zero => intro x3 x4 V H locs ls hV hS hl h; rw [vX1_words_l25] at h; exact h.elim
    | succ n ih =>
      intro x3 x4 V H locs ls hV hS hl h
      rw [vX1_words_l25] at h
      refine lv_iload hx hb dX1_words_25 (lv_at hl 4 rfl) ?_
      refine lv_aload_n hx hb dX1_words_27 rfl (lv_at hl 0 rfl) ?_
      obtain ⟨p_8, e_9, h⟩ := bO_e h
      refine vg_r S hK hV fX1_49 e_9 dX1_words_28 ?_
      obtain ⟨n_10, z_n_10, h9⟩ := bO_e h
      clear h; subst z_n_10; have h := h9; clear h9
      obtain ⟨p_11, e_12, h⟩ := bO_e h
      refine vg_r S hK hV fX1_173 e_12 dX1_words_31 ?_
      obtain ⟨n_13, z_n_13, h9⟩ := bO_e h
      clear h; subst z_n_13; have h := h9; clear h9
      obtain ⟨o_16, e_17, h⟩ := bO_e h
      refine vk_i (vr_V (As := []) (rest := [.int x4]) S hK hG hA hV hS e_17 rfl (mvJ2_size l n_13 V _ h) (cwV 0 S.2.2.2.2 (lw_V q972 q591 q592 q144 q593) rfl rfl rfl cdJ2_size ⟨Nat.le_of_ble_eq_true rfl, Nat.le_of_ble_eq_true rfl⟩) rfl hl.1 (Nat.le_of_ble_eq_true rfl) dX1_words_34 ⟨Nat.le_refl _, Nat.le_refl _⟩) hS (fun r_14 V_15 H locs h hV hS => ?_)
      refine lv_icmp_ge (tgt := 77) hx hb dX1_words_37 (by decide) (fun c_18 => ?_) (fun c_18 => ?_)
      · replace h := h.1 c_18
        refine lv_iload_n hx hb dX1_words_77 rfl (lv_at hl 3 rfl) ?_
        exact ve_i S hlocks hret hV hS h rfl (Nat.le_refl _) (Nat.le_refl _) dX1_words_78
      · replace h := h.2 c_18
        refine lv_iload_n hx hb dX1_words_40 rfl (lv_at hl 3 rfl) ?_
        refine lv_aload_n hx hb dX1_words_41 rfl (lv_at hl 0 rfl) ?_
        refine lv_iload hx hb dX1_words_42 (lv_at hl 4 rfl) ?_
        refine lv_iload_n hx hb dX1_words_44 rfl (lv_at hl 1 rfl) ?_
        refine lv_iconst hx hb dX1_words_45 kc_m1 ?_
        obtain ⟨o_21, e_22, h⟩ := bO_e h
        refine vk_q (vr_V (As := [.int x4, .int a1, .int (-1 : Int32)]) (rest := [.int x3]) S hK hG hA hV hS e_22 rfl (mvX1_word_2 l a0 x4 a1 (-1 : Int32) V_15 _ h) (cwV 3 S.2.2.2.2 (lw_V q1048 q1050 qs38 q139 q1051) rfl rfl rfl cdX1_word_2 ⟨Nat.le_of_ble_eq_true rfl, Nat.le_of_ble_eq_true rfl⟩) rfl hl.1 (Nat.le_of_ble_eq_true rfl) dX1_words_46 ⟨Nat.le_refl _, Nat.le_refl _⟩) hS (fun p_19 V_20 H locs h hV hS => ?_)
        rcases p_19 with _ | n_23
        · replace h := h.1 rfl
          refine lv_ifnullN (tgt := 68) hx hb dX1_words_49 (by decide) ?_
          exact C68 _ ih _ _ _ _ _ _ hV hS (lv_sub hl [0, 1, 2, 4] rfl) h
        · replace h := h.2 n_23 rfl
          refine lv_ifnull hx hb dX1_words_49 ?_
          refine lv_aload_n hx hb dX1_words_52 rfl (lv_at hl 0 rfl) ?_
          refine lv_iload hx hb dX1_words_53 (lv_at hl 4 rfl) ?_
          obtain ⟨o_28, e_29, h⟩ := bO_e h
          refine vk_i (vr_V (As := [.int x4]) (rest := [.int x3]) S hK hG hA hV hS e_29 rfl (mvX1_bitsOf l a0 x4 V_20 _ h) (cwV 1 S.2.2.2.2 (lw_V q1036 q1038 qs36 q139 q1039) rfl rfl rfl cdX1_bitsOf ⟨Nat.le_of_ble_eq_true rfl, Nat.le_of_ble_eq_true rfl⟩) rfl hl.1 (Nat.le_of_ble_eq_true rfl) dX1_words_55 ⟨Nat.le_refl _, Nat.le_refl _⟩) hS (fun r_26 V_27 H locs h hV hS => ?_)
          refine lv_iload_n hx hb dX1_words_58 rfl (lv_at hl 2 rfl) ?_
          refine lv_iand hx hb dX1_words_59 ?_
          refine lv_iload_n hx hb dX1_words_60 rfl (lv_at hl 2 rfl) ?_
          refine lv_icmp_ne (tgt := 68) hx hb dX1_words_61 (by decide) (fun c_30 => ?_) (fun c_30 => ?_)
          · replace h := h.2 c_30
            exact C68 _ ih _ _ _ _ _ _ hV hS (lv_sub hl [0, 1, 2, 4] rfl) h
          · replace h := h.1 c_30
            refine lv_iconst hx hb dX1_words_64 kc_1 ?_
            refine lv_goto (tgt := 69) hx hb dX1_words_65 (by decide) ?_
            exact C69 _ ih _ _ _ _ _ _ _ hV hS (lv_sub hl [0, 1, 2, 4] rfl) h
  unfold vX1_words at h
  refine lv_aload_n hx hb dX1_words_0 rfl (lv_at hl 0 rfl) ?_
  refine lv_iload_n hx hb dX1_words_1 rfl (lv_at hl 1 rfl) ?_
  obtain ⟨o_3, e_4, h⟩ := bO_e h
  refine vk_i (vr_V (As := [.int a1]) (rest := []) S hK hG hA hV hS e_4 rfl (mvX1_isTeller l a0 a1 V _ h) (cwV 1 S.2.2.2.2 (lw_V q968 q970 qs31 q139 q971) rfl rfl rfl cdX1_isTeller ⟨Nat.le_of_ble_eq_true rfl, Nat.le_of_ble_eq_true rfl⟩) rfl hl.1 (Nat.le_of_ble_eq_true rfl) dX1_words_2 ⟨Nat.le_refl _, Nat.le_refl _⟩) hS (fun r_1 V_2 H locs h hV hS => ?_)
  refine lv_if_eq (tgt := 18) hx hb dX1_words_5 (by decide) (fun c_5 => ?_) (fun c_5 => ?_)
  · replace h := h.1 c_5
    refine lv_iconst hx hb dX1_words_18 kc_m1 ?_
    exact ve_i S hlocks hret hV hS h rfl (Nat.le_refl _) (Nat.le_refl _) dX1_words_19
  · replace h := h.2 c_5
    refine lv_iload_n hx hb dX1_words_8 rfl (lv_at hl 2 rfl) ?_
    refine lv_iconst hx hb dX1_words_9 kc_1 ?_
    refine lv_bipush hx hb dX1_words_10 kb_127 ?_
    refine sc_i S (As := [.int a2, .int (1 : Int32), .int (127 : Int32)]) (rest := []) (mt1_in l a2 (1 : Int32) (127 : Int32) _ h) (va_cwS 3 S.2.2.2.2 (lw_S q367 q368 q139 q369) rfl rfl rfl cdX1_in ⟨Nat.le_of_ble_eq_true rfl, Nat.le_of_ble_eq_true rfl⟩) rfl rfl hl.1 (Nat.le_of_ble_eq_true rfl) dX1_words_12 ⟨Nat.le_refl _, Nat.le_refl _⟩ (fun r_6 h => ?_)
    refine lv_if_ne (tgt := 20) hx hb dX1_words_15 (by decide) (fun c_7 => ?_) (fun c_7 => ?_)
    · replace h := h.2 c_7
      refine lv_iconst hx hb dX1_words_20 kc_0 ?_
      refine lv_istore_n (lv' := [(3, .int (0 : Int32)), (0, .ref a0), (1, .int a1), (2, .int a2)]) hx hb dX1_words_21 rfl hl (by decide) rfl (fun ls hl => ?_)
      refine lv_iconst hx hb dX1_words_22 kc_0 ?_
      refine lv_istore (lv' := [(4, .int (0 : Int32)), (3, .int (0 : Int32)), (0, .ref a0), (1, .int a1), (2, .int a2)]) hx hb dX1_words_23 hl (by decide) rfl (fun ls hl => ?_)
      obtain ⟨f, h⟩ := h
      exact L25 f _ _ _ _ _ _ hV hS (lv_sub hl [2, 3, 4, 1, 0] rfl) h
    · replace h := h.1 c_7
      refine lv_iconst hx hb dX1_words_18 kc_m1 ?_
      exact ve_i S hlocks hret hV hS h rfl (Nat.le_refl _) (Nat.le_refl _) dX1_words_19
def vX1_truth (cA : Nat → ClassId) (a0 : Nat) (a1 : Int32) (V : VS) (Post : Int32 → VS → Prop) : Prop := w1_in a1 (1 : Int32) (9 : Int32) (fun r_1 => (r_1 = 0 → (Post (0 : Int32) V)) ∧ (¬ (r_1 = 0) → (bO (pF V [1] a0 5 (.int a1)) (fun V_3 => Post (1 : Int32) V_3))))
abbrev rX1_truth : Room := { frames := 1, cells := 0, slots := 0, locals := 22 }
theorem cdX1_truth : yX1_truth.cls = RX1 ∧ yX1_truth.cls ≠ "java/lang/invoke/MethodHandle" ∧ yX1_truth.cls ≠ "java/lang/invoke/VarHandle" ∧ (parseMethodDescriptor yX1_truth.desc).map (fun d => d.parameters.length) = some 1 := by decide +kernel
set_option maxHeartbeats 4000000 in
set_option maxRecDepth 100000 in
theorem mvX1_truth (l : Launch) {D : va_G} {cA : Nat → ClassId} {A : Nat → Prop} (a0 : Nat) (a1 : Int32) (V : VS) (Post : Int32 → VS → Prop) (h : vX1_truth cA a0 a1 V Post) : Met l yX1_truth (ws_ yX1_truth cX1_truth 2 (some (.boolean))) rX1_truth (vPc [.ref a0, .int a1] D cA A V) (va_Qi Post (vB D A) A) 0 0 A := by
  refine vstM (own := RX1) (by decide) rfl (Nat.le_of_ble_eq_true rfl) ?_
  intro p e s m args below meth c ls X hret hV hS hl
  obtain ⟨S, hK, hG, hA, hnm, hlocks⟩ := X
  have hx := S.1
  have hb := S.2.1
  have hl : lv_has ls 2 [(0, .ref a0), (1, .int a1)] := hl
  unfold vX1_truth at h
  refine lv_iload_n hx hb dX1_truth_0 rfl (lv_at hl 1 rfl) ?_
  refine lv_iconst hx hb dX1_truth_1 kc_1 ?_
  refine lv_bipush hx hb dX1_truth_2 kb_9 ?_
  refine sc_i S (As := [.int a1, .int (1 : Int32), .int (9 : Int32)]) (rest := []) (mt1_in l a1 (1 : Int32) (9 : Int32) _ h) (va_cwS 3 S.2.2.2.2 (lw_S q367 q368 q139 q369) rfl rfl rfl cdX1_in ⟨Nat.le_of_ble_eq_true rfl, Nat.le_of_ble_eq_true rfl⟩) rfl rfl hl.1 (Nat.le_of_ble_eq_true rfl) dX1_truth_4 ⟨Nat.le_refl _, Nat.le_refl _⟩ (fun r_1 h => ?_)
  refine lv_if_ne (tgt := 12) hx hb dX1_truth_7 (by decide) (fun c_2 => ?_) (fun c_2 => ?_)
  · replace h := h.2 c_2
    refine lv_aload_n hx hb dX1_truth_12 rfl (lv_at hl 0 rfl) ?_
    refine lv_iload_n hx hb dX1_truth_13 rfl (lv_at hl 1 rfl) ?_
    obtain ⟨V_3, e_4, h⟩ := bO_e h
    refine vp_v (v := .int a1) S hK hV hS fX1_28 (Or.inl rfl) rfl rfl e_4 dX1_truth_14 (fun H locs hV hS => ?_)
    refine lv_iconst hx hb dX1_truth_17 kc_1 ?_
    exact ve_i S hlocks hret hV hS h (vz_nar vz_1) (Nat.le_refl _) (Nat.le_refl _) dX1_truth_18
  · replace h := h.1 c_2
    refine lv_iconst hx hb dX1_truth_10 kc_0 ?_
    exact ve_i S hlocks hret hV hS h (vz_nar vz_0) (Nat.le_refl _) (Nat.le_refl _) dX1_truth_11
def vX1_begin (cA : Nat → ClassId) (a0 : Nat) (a1 : Int32) (a2 : Int32) (V : VS) (Post : Int32 → VS → Prop) : Prop := w1_in a1 (1 : Int32) (99 : Int32) (fun r_1 => (r_1 = 0 → (Post (0 : Int32) V)) ∧ (¬ (r_1 = 0) → (w1_in a2 (1 : Int32) (99 : Int32) (fun r_3 => (r_3 = 0 → (Post (0 : Int32) V)) ∧ (¬ (r_3 = 0) → (bO (pF V [1] a0 8 (.int a1)) (fun V_5 => bO (pF V_5 [1] a0 9 (.int a2)) (fun V_7 => Post (1 : Int32) V_7))))))))
abbrev rX1_begin : Room := { frames := 1, cells := 0, slots := 0, locals := 22 }
theorem cdX1_begin : yX1_begin.cls = RX1 ∧ yX1_begin.cls ≠ "java/lang/invoke/MethodHandle" ∧ yX1_begin.cls ≠ "java/lang/invoke/VarHandle" ∧ (parseMethodDescriptor yX1_begin.desc).map (fun d => d.parameters.length) = some 2 := by decide +kernel
set_option maxHeartbeats 4000000 in
set_option maxRecDepth 100000 in
theorem mvX1_begin (l : Launch) {D : va_G} {cA : Nat → ClassId} {A : Nat → Prop} (a0 : Nat) (a1 : Int32) (a2 : Int32) (V : VS) (Post : Int32 → VS → Prop) (h : vX1_begin cA a0 a1 a2 V Post) : Met l yX1_begin (ws_ yX1_begin cX1_begin 3 (some (.boolean))) rX1_begin (vPc [.ref a0, .int a1, .int a2] D cA A V) (va_Qi Post (vB D A) A) 0 0 A := by
  refine vstM (own := RX1) (by decide) rfl (Nat.le_of_ble_eq_true rfl) ?_
  intro p e s m args below meth c ls X hret hV hS hl
  obtain ⟨S, hK, hG, hA, hnm, hlocks⟩ := X
  have hx := S.1
  have hb := S.2.1
  have hl : lv_has ls 3 [(0, .ref a0), (1, .int a1), (2, .int a2)] := hl
  unfold vX1_begin at h
  refine lv_iload_n hx hb dX1_begin_0 rfl (lv_at hl 1 rfl) ?_
  refine lv_iconst hx hb dX1_begin_1 kc_1 ?_
  refine lv_bipush hx hb dX1_begin_2 kb_99 ?_
  refine sc_i S (As := [.int a1, .int (1 : Int32), .int (99 : Int32)]) (rest := []) (mt1_in l a1 (1 : Int32) (99 : Int32) _ h) (va_cwS 3 S.2.2.2.2 (lw_S q367 q368 q139 q369) rfl rfl rfl cdX1_in ⟨Nat.le_of_ble_eq_true rfl, Nat.le_of_ble_eq_true rfl⟩) rfl rfl hl.1 (Nat.le_of_ble_eq_true rfl) dX1_begin_4 ⟨Nat.le_refl _, Nat.le_refl _⟩ (fun r_1 h => ?_)
  refine lv_if_eq (tgt := 20) hx hb dX1_begin_7 (by decide) (fun c_2 => ?_) (fun c_2 => ?_)
  · replace h := h.1 c_2
    refine lv_iconst hx hb dX1_begin_20 kc_0 ?_
    exact ve_i S hlocks hret hV hS h (vz_nar vz_0) (Nat.le_refl _) (Nat.le_refl _) dX1_begin_21
  · replace h := h.2 c_2
    refine lv_iload_n hx hb dX1_begin_10 rfl (lv_at hl 2 rfl) ?_
    refine lv_iconst hx hb dX1_begin_11 kc_1 ?_
    refine lv_bipush hx hb dX1_begin_12 kb_99 ?_
    refine sc_i S (As := [.int a2, .int (1 : Int32), .int (99 : Int32)]) (rest := []) (mt1_in l a2 (1 : Int32) (99 : Int32) _ h) (va_cwS 3 S.2.2.2.2 (lw_S q367 q368 q139 q369) rfl rfl rfl cdX1_in ⟨Nat.le_of_ble_eq_true rfl, Nat.le_of_ble_eq_true rfl⟩) rfl rfl hl.1 (Nat.le_of_ble_eq_true rfl) dX1_begin_14 ⟨Nat.le_refl _, Nat.le_refl _⟩ (fun r_3 h => ?_)
    refine lv_if_ne (tgt := 22) hx hb dX1_begin_17 (by decide) (fun c_4 => ?_) (fun c_4 => ?_)
    · replace h := h.2 c_4
      refine lv_aload_n hx hb dX1_begin_22 rfl (lv_at hl 0 rfl) ?_
      refine lv_iload_n hx hb dX1_begin_23 rfl (lv_at hl 1 rfl) ?_
      obtain ⟨V_5, e_6, h⟩ := bO_e h
      refine vp_v (v := .int a1) S hK hV hS fX1_31 (Or.inl rfl) rfl rfl e_6 dX1_begin_24 (fun H locs hV hS => ?_)
      refine lv_aload_n hx hb dX1_begin_27 rfl (lv_at hl 0 rfl) ?_
      refine lv_iload_n hx hb dX1_begin_28 rfl (lv_at hl 2 rfl) ?_
      obtain ⟨V_7, e_8, h⟩ := bO_e h
      refine vp_v (v := .int a2) S hK hV hS fX1_34 (Or.inl rfl) rfl rfl e_8 dX1_begin_29 (fun H locs hV hS => ?_)
      refine lv_iconst hx hb dX1_begin_32 kc_1 ?_
      exact ve_i S hlocks hret hV hS h (vz_nar vz_1) (Nat.le_refl _) (Nat.le_refl _) dX1_begin_33
    · replace h := h.1 c_4
      refine lv_iconst hx hb dX1_begin_20 kc_0 ?_
      exact ve_i S hlocks hret hV hS h (vz_nar vz_0) (Nat.le_refl _) (Nat.le_refl _) dX1_begin_21
def vX1_weigh (cA : Nat → ClassId) (a0 : Nat) (a1 : Int64) (a3 : Int64) (V : VS) (Post : VS → Prop) : Prop := bO (gJ V [1] a0 13) (fun g_1 => bO (pF V [1] a0 13 (.long (g_1 * a1))) (fun V_3 => bO (gJ V_3 [1] a0 14) (fun g_5 => bO (pF V_3 [1] a0 14 (.long (g_5 * a3))) (fun V_7 => bO (gJ V_7 [1] a0 13) (fun g_9 => bO (gJ V_7 [1] a0 14) (fun g_11 => w1_common 100 g_9 g_11 (fun r_13 => bO (gJ V_7 [1] a0 13) (fun g_14 => (¬ r_13 = 0 ∧ bO (pF V_7 [1] a0 13 (.long (g_14 / r_13))) (fun V_16 => bO (gJ V_16 [1] a0 14) (fun g_18 => (¬ r_13 = 0 ∧ bO (pF V_16 [1] a0 14 (.long (g_18 / r_13))) (fun V_20 => Post V_20)))))))))))))
abbrev rX1_weigh : Room := { frames := 101, cells := 0, slots := 0, locals := 6023 }
theorem cdX1_weigh : yX1_weigh.cls = RX1 ∧ yX1_weigh.cls ≠ "java/lang/invoke/MethodHandle" ∧ yX1_weigh.cls ≠ "java/lang/invoke/VarHandle" ∧ (parseMethodDescriptor yX1_weigh.desc).map (fun d => d.parameters.length) = some 2 := by decide +kernel
set_option maxHeartbeats 4000000 in
set_option maxRecDepth 100000 in
theorem mvX1_weigh (l : Launch) {D : va_G} {cA : Nat → ClassId} {A : Nat → Prop} (a0 : Nat) (a1 : Int64) (a3 : Int64) (V : VS) (Post : VS → Prop) (h : vX1_weigh cA a0 a1 a3 V Post) : Met l yX1_weigh (ws_ yX1_weigh cX1_weigh 7 none) rX1_weigh (vPc [.ref a0, .long a1, .long a3] D cA A V) (va_Qv Post (vB D A) A) 0 0 A := by
  refine vstM (own := RX1) (by decide) rfl (Nat.le_of_ble_eq_true rfl) ?_
  intro p e s m args below meth c ls X hret hV hS hl
  obtain ⟨S, hK, hG, hA, hnm, hlocks⟩ := X
  have hx := S.1
  have hb := S.2.1
  have hl : lv_has ls 7 [(0, .ref a0), (1, .long a1), (3, .long a3)] := hl
  unfold vX1_weigh at h
  refine lv_aload_n hx hb dX1_weigh_0 rfl (lv_at hl 0 rfl) ?_
  refine lv_dup hx hb dX1_weigh_1 rfl ?_
  obtain ⟨g_1, e_2, h⟩ := bO_e h
  refine vg_l S hK hV fX1_268 e_2 dX1_weigh_2 ?_
  refine lv_lload_n hx hb dX1_weigh_5 rfl (lv_at hl 1 rfl) ?_
  refine lv_lmul hx hb dX1_weigh_6 ?_
  obtain ⟨V_3, e_4, h⟩ := bO_e h
  refine vp_v (v := .long (g_1 * a1)) S hK hV hS fX1_268 (Or.inl rfl) rfl rfl e_4 dX1_weigh_7 (fun H locs hV hS => ?_)
  refine lv_aload_n hx hb dX1_weigh_10 rfl (lv_at hl 0 rfl) ?_
  refine lv_dup hx hb dX1_weigh_11 rfl ?_
  obtain ⟨g_5, e_6, h⟩ := bO_e h
  refine vg_l S hK hV fX1_272 e_6 dX1_weigh_12 ?_
  refine lv_lload_n hx hb dX1_weigh_15 rfl (lv_at hl 2 rfl) ?_
  refine lv_lmul hx hb dX1_weigh_16 ?_
  obtain ⟨V_7, e_8, h⟩ := bO_e h
  refine vp_v (v := .long (g_5 * a3)) S hK hV hS fX1_272 (Or.inl rfl) rfl rfl e_8 dX1_weigh_17 (fun H locs hV hS => ?_)
  refine lv_aload_n hx hb dX1_weigh_20 rfl (lv_at hl 0 rfl) ?_
  obtain ⟨g_9, e_10, h⟩ := bO_e h
  refine vg_l S hK hV fX1_268 e_10 dX1_weigh_21 ?_
  refine lv_aload_n hx hb dX1_weigh_24 rfl (lv_at hl 0 rfl) ?_
  obtain ⟨g_11, e_12, h⟩ := bO_e h
  refine vg_l S hK hV fX1_272 e_12 dX1_weigh_25 ?_
  refine sc_l S (As := [.long g_9, .long g_11]) (rest := []) (mt1_common l 100 g_9 g_11 _ h) (va_cwS 2 S.2.2.2.2 (lw_S q1127 q1128 q139 q1129) rfl rfl rfl cdX1_common ⟨Nat.le_of_ble_eq_true rfl, Nat.le_of_ble_eq_true rfl⟩) rfl rfl hl.1 (Nat.le_of_ble_eq_true rfl) dX1_weigh_28 ⟨Nat.le_refl _, Nat.le_refl _⟩ (fun r_13 h => ?_)
  refine lv_lstore (lv' := [(5, .long r_13), (0, .ref a0), (1, .long a1), (3, .long a3)]) hx hb dX1_weigh_31 hl (by decide) rfl (fun ls hl => ?_)
  refine lv_aload_n hx hb dX1_weigh_33 rfl (lv_at hl 1 rfl) ?_
  refine lv_dup hx hb dX1_weigh_34 rfl ?_
  obtain ⟨g_14, e_15, h⟩ := bO_e h
  refine vg_l S hK hV fX1_268 e_15 dX1_weigh_35 ?_
  refine lv_lload hx hb dX1_weigh_38 (lv_at hl 0 rfl) ?_
  obtain ⟨hz, h⟩ := h
  refine lv_ldiv hx hb dX1_weigh_40 hz ?_
  obtain ⟨V_16, e_17, h⟩ := bO_e h
  refine vp_v (v := .long (g_14 / r_13)) S hK hV hS fX1_268 (Or.inl rfl) rfl rfl e_17 dX1_weigh_41 (fun H locs hV hS => ?_)
  refine lv_aload_n hx hb dX1_weigh_44 rfl (lv_at hl 1 rfl) ?_
  refine lv_dup hx hb dX1_weigh_45 rfl ?_
  obtain ⟨g_18, e_19, h⟩ := bO_e h
  refine vg_l S hK hV fX1_272 e_19 dX1_weigh_46 ?_
  refine lv_lload hx hb dX1_weigh_49 (lv_at hl 0 rfl) ?_
  obtain ⟨hz, h⟩ := h
  refine lv_ldiv hx hb dX1_weigh_51 hz ?_
  obtain ⟨V_20, e_21, h⟩ := bO_e h
  refine vp_v (v := .long (g_18 / r_13)) S hK hV hS fX1_272 (Or.inl rfl) rfl rfl e_21 dX1_weigh_52 (fun H locs hV hS => ?_)
  exact ve_v S hlocks hret hV hS h (Nat.le_refl _) (Nat.le_refl _) dX1_weigh_55
def vX1_weigh_2 (cA : Nat → ClassId) (a0 : Nat) (a1 : Nat) (a2 : Int32) (V : VS) (Post : VS → Prop) : Prop := (a2 = 0 → (bO (gI V [1] a0 5) (fun g_2 => bO (gI V [5] a1 1) (fun g_4 => bO (gI V [5] a1 1) (fun g_6 => bO (vO V [1] a0) (fun o_10 => vX1_weigh cA a0 ((((10 : Int32) - g_2).toInt64) * g_4.toInt64) ((10 : Int64) * ((g_6 - (1 : Int32)).toInt64)) V (fun V_9 => Post V_9))))))) ∧ (¬ (a2 = 0) → (bO (gI V [1] a0 5) (fun g_12 => bO (gI V [5] a1 1) (fun g_14 => bO (vO V [1] a0) (fun o_18 => vX1_weigh cA a0 (g_12.toInt64 * g_14.toInt64) (10 : Int64) V (fun V_17 => Post V_17))))))
abbrev rX1_weigh_2 : Room := { frames := 102, cells := 0, slots := 0, locals := 6049 }
theorem cdX1_weigh_2 : yX1_weigh_2.cls = RX1 ∧ yX1_weigh_2.cls ≠ "java/lang/invoke/MethodHandle" ∧ yX1_weigh_2.cls ≠ "java/lang/invoke/VarHandle" ∧ (parseMethodDescriptor yX1_weigh_2.desc).map (fun d => d.parameters.length) = some 2 := by decide +kernel
set_option maxHeartbeats 4000000 in
set_option maxRecDepth 100000 in
theorem mvX1_weigh_2 (l : Launch) {D : va_G} {cA : Nat → ClassId} {A : Nat → Prop} (a0 : Nat) (a1 : Nat) (a2 : Int32) (V : VS) (Post : VS → Prop) (h : vX1_weigh_2 cA a0 a1 a2 V Post) : Met l yX1_weigh_2 (ws_ yX1_weigh_2 cX1_weigh_2 3 none) rX1_weigh_2 (vPc [.ref a0, .ref a1, .int a2] D cA A V) (va_Qv Post (vB D A) A) 0 0 A := by
  refine vstM (own := RX1) (by decide) rfl (Nat.le_of_ble_eq_true rfl) ?_
  intro p e s m args below meth c ls X hret hV hS hl
  obtain ⟨S, hK, hG, hA, hnm, hlocks⟩ := X
  have hx := S.1
  have hb := S.2.1
  have hl : lv_has ls 3 [(0, .ref a0), (1, .ref a1), (2, .int a2)] := hl
  unfold vX1_weigh_2 at h
  refine lv_iload_n hx hb dX1_weigh_2_0 rfl (lv_at hl 2 rfl) ?_
  refine lv_if_eq (tgt := 25) hx hb dX1_weigh_2_1 (by decide) (fun c_1 => ?_) (fun c_1 => ?_)
  · replace h := h.1 c_1
    refine lv_aload_n hx hb dX1_weigh_2_25 rfl (lv_at hl 0 rfl) ?_
    refine lv_bipush hx hb dX1_weigh_2_26 kb_10 ?_
    refine lv_aload_n hx hb dX1_weigh_2_28 rfl (lv_at hl 0 rfl) ?_
    obtain ⟨g_2, e_3, h⟩ := bO_e h
    refine vg_i S hK hV fX1_28 e_3 dX1_weigh_2_29 ?_
    refine lv_isub hx hb dX1_weigh_2_32 ?_
    refine lv_i2l hx hb dX1_weigh_2_33 rfl ?_
    refine lv_aload_n hx hb dX1_weigh_2_34 rfl (lv_at hl 1 rfl) ?_
    obtain ⟨g_4, e_5, h⟩ := bO_e h
    refine vg_i S hK hV fX1_141 e_5 dX1_weigh_2_35 ?_
    refine lv_i2l hx hb dX1_weigh_2_38 rfl ?_
    refine lv_lmul hx hb dX1_weigh_2_39 ?_
    refine lv_ldc2 (own := RX1) (v := 10) hx hb S.2.2.2.1 (S.2.2.2.2 _ q1134) dX1_weigh_2_40 ?_
    refine lv_aload_n hx hb dX1_weigh_2_43 rfl (lv_at hl 1 rfl) ?_
    obtain ⟨g_6, e_7, h⟩ := bO_e h
    refine vg_i S hK hV fX1_141 e_7 dX1_weigh_2_44 ?_
    refine lv_iconst hx hb dX1_weigh_2_47 kc_1 ?_
    refine lv_isub hx hb dX1_weigh_2_48 ?_
    refine lv_i2l hx hb dX1_weigh_2_49 rfl ?_
    refine lv_lmul hx hb dX1_weigh_2_50 ?_
    obtain ⟨o_10, e_11, h⟩ := bO_e h
    refine vk_v (vr_V (As := [.long ((((10 : Int32) - g_2).toInt64) * g_4.toInt64), .long ((10 : Int64) * ((g_6 - (1 : Int32)).toInt64))]) (rest := []) S hK hG hA hV hS e_11 rfl (mvX1_weigh l a0 ((((10 : Int32) - g_2).toInt64) * g_4.toInt64) ((10 : Int64) * ((g_6 - (1 : Int32)).toInt64)) V _ h) (cwV 2 S.2.2.2.2 (lw_V q1123 q1125 qs42 q139 q1126) rfl rfl rfl cdX1_weigh ⟨Nat.le_of_ble_eq_true rfl, Nat.le_of_ble_eq_true rfl⟩) rfl hl.1 (Nat.le_of_ble_eq_true rfl) dX1_weigh_2_51 ⟨Nat.le_refl _, Nat.le_refl _⟩) hS (fun V_9 H locs h hV hS => ?_)
    exact ve_v S hlocks hret hV hS h (Nat.le_refl _) (Nat.le_refl _) dX1_weigh_2_54
  · replace h := h.2 c_1
    refine lv_aload_n hx hb dX1_weigh_2_4 rfl (lv_at hl 0 rfl) ?_
    refine lv_aload_n hx hb dX1_weigh_2_5 rfl (lv_at hl 0 rfl) ?_
    obtain ⟨g_12, e_13, h⟩ := bO_e h
    refine vg_i S hK hV fX1_28 e_13 dX1_weigh_2_6 ?_
    refine lv_i2l hx hb dX1_weigh_2_9 rfl ?_
    refine lv_aload_n hx hb dX1_weigh_2_10 rfl (lv_at hl 1 rfl) ?_
    obtain ⟨g_14, e_15, h⟩ := bO_e h
    refine vg_i S hK hV fX1_141 e_15 dX1_weigh_2_11 ?_
    refine lv_i2l hx hb dX1_weigh_2_14 rfl ?_
    refine lv_lmul hx hb dX1_weigh_2_15 ?_
    refine lv_ldc2 (own := RX1) (v := 10) hx hb S.2.2.2.1 (S.2.2.2.2 _ q1134) dX1_weigh_2_16 ?_
    obtain ⟨o_18, e_19, h⟩ := bO_e h
    refine vk_v (vr_V (As := [.long (g_12.toInt64 * g_14.toInt64), .long (10 : Int64)]) (rest := []) S hK hG hA hV hS e_19 rfl (mvX1_weigh l a0 (g_12.toInt64 * g_14.toInt64) (10 : Int64) V _ h) (cwV 2 S.2.2.2.2 (lw_V q1123 q1125 qs42 q139 q1126) rfl rfl rfl cdX1_weigh ⟨Nat.le_of_ble_eq_true rfl, Nat.le_of_ble_eq_true rfl⟩) rfl hl.1 (Nat.le_of_ble_eq_true rfl) dX1_weigh_2_19 ⟨Nat.le_refl _, Nat.le_refl _⟩) hS (fun V_17 H locs h hV hS => ?_)
    refine lv_goto (tgt := 54) hx hb dX1_weigh_2_22 (by decide) ?_
    exact ve_v S hlocks hret hV hS h (Nat.le_refl _) (Nat.le_refl _) dX1_weigh_2_54
def vX1_firstPage_c73 (cA : Nat → ClassId) (a0 : Nat) (a1 : Int32) (a2 : Int32) (k2 : Int32 → VS → Prop) (Post : Option Nat → VS → Prop) (x3 : Int32) (V : VS) : Prop := ∀ v_28 : Int32, v_28 = x3 + (1 : Int32) → k2 v_28 V
def vX1_firstPage_l2 (cA : Nat → ClassId) (a0 : Nat) (a1 : Int32) (a2 : Int32) (Post : Option Nat → VS → Prop) : Nat → Int32 → VS → Prop
  | 0, _, _ => False
  | n + 1, x3, V => bO (gR V [1] a0 11) (fun p_1 => bO p_1 (fun n_3 => bO (gR V [3] n_3 3) (fun p_4 => bO p_4 (fun n_6 => bO (vO V [14] n_6) (fun o_9 => vJ2_size cA n_6 V (fun r_7 V_8 => (r_7 ≤ x3 → (Post (none) V_8)) ∧ (¬ (r_7 ≤ x3) → (bO (gR V_8 [1] a0 11) (fun p_12 => bO p_12 (fun n_14 => bO (gR V_8 [3] n_14 3) (fun p_15 => bO p_15 (fun n_17 => bO (vO V_8 [14] n_17) (fun o_20 => vJ2_get cA n_17 x3 V_8 (fun p_18 V_19 => bO p_18 (fun n_22 => bO (vO V_19 [9] n_22) (fun o_23 => bO (gI V_19 [9] n_22 0) (fun g_25 => (g_25 = a1 → (bO (gR V_19 [1] a0 11) (fun p_29 => bO p_29 (fun n_31 => bO (gR V_19 [3] n_31 3) (fun p_32 => bO p_32 (fun n_34 => bO (vO V_19 [14] n_34) (fun o_37 => vJ2_get cA n_34 x3 V_19 (fun p_35 V_36 => bO p_35 (fun n_39 => bO (vO V_36 [9] n_39) (fun o_40 => bO (gI V_36 [9] n_39 1) (fun g_42 => (g_42 = a2 → (bO (gR V_36 [1] a0 11) (fun p_45 => bO p_45 (fun n_47 => bO (gR V_36 [3] n_47 3) (fun p_48 => bO p_48 (fun n_50 => bO (vO V_36 [14] n_50) (fun o_53 => vJ2_get cA n_50 x3 V_36 (fun p_51 V_52 => bO p_51 (fun n_55 => bO (vO V_52 [9] n_55) (fun o_56 => Post (some n_55) V_52)))))))))) ∧ (¬ (g_42 = a2) → (vX1_firstPage_c73 cA a0 a1 a2 (vX1_firstPage_l2 cA a0 a1 a2 Post n) Post x3 V_36))))))))))))) ∧ (¬ (g_25 = a1) → (vX1_firstPage_c73 cA a0 a1 a2 (vX1_firstPage_l2 cA a0 a1 a2 Post n) Post x3 V_19)))))))))))))))))))
def vX1_firstPage (cA : Nat → ClassId) (a0 : Nat) (a1 : Int32) (a2 : Int32) (V : VS) (Post : Option Nat → VS → Prop) : Prop := ∃ f, vX1_firstPage_l2 cA a0 a1 a2 Post f (0 : Int32) V
abbrev rX1_firstPage : Room := { frames := 3, cells := 0, slots := 0, locals := 64 }
theorem cdX1_firstPage : yX1_firstPage.cls = RX1 ∧ yX1_firstPage.cls ≠ "java/lang/invoke/MethodHandle" ∧ yX1_firstPage.cls ≠ "java/lang/invoke/VarHandle" ∧ (parseMethodDescriptor yX1_firstPage.desc).map (fun d => d.parameters.length) = some 2 := by decide +kernel
set_option maxHeartbeats 4000000 in
set_option maxRecDepth 100000 in
theorem mvX1_firstPage (l : Launch) {D : va_G} {cA : Nat → ClassId} {A : Nat → Prop} (a0 : Nat) (a1 : Int32) (a2 : Int32) (V : VS) (Post : Option Nat → VS → Prop) (h : vX1_firstPage cA a0 a1 a2 V Post) : Met l yX1_firstPage (ws_ yX1_firstPage cX1_firstPage 4 (some (.object "SaidSo$Page"))) rX1_firstPage (vPc [.ref a0, .int a1, .int a2] D cA A V) (va_Qq Post (vB D A) A) 0 0 A := by
  refine vstM (own := RX1) (by decide) rfl (Nat.le_of_ble_eq_true rfl) ?_
  intro p e s m args below meth c ls X hret hV hS hl
  obtain ⟨S, hK, hG, hA, hnm, hlocks⟩ := X
  have hx := S.1
  have hb := S.2.1
  have hl : lv_has ls 4 [(0, .ref a0), (1, .int a1), (2, .int a2)] := hl
  have C73 : ∀ (k2 : Int32 → VS → Prop) (K2 : (∀ (x3 : Int32) (V : VS) (H : Heap) (locs : List Loc) (ls : Array Slot), HV D A V H → va_S A s.heap H locs → lv_has ls 4 [(0, .ref a0), (1, .int a1), (2, .int a2), (3, .int x3)] → k2 x3 V → W p l e rX1_firstPage s m args below meth c H locs 0 0 (MQ below (va_Qq Post (vB D A) A) args s 0 0 A) (F0 m 2 ls []))), ∀ (x3 : Int32) (V : VS) (H : Heap) (locs : List Loc) (ls : Array Slot), HV D A V H → va_S A s.heap H locs → lv_has ls 4 [(0, .ref a0), (1, .int a1), (2, .int a2), (3, .int x3)] → vX1_firstPage_c73 cA a0 a1 a2 k2 Post x3 V → W p l e rX1_firstPage s m args below meth c H locs 0 0 (MQ below (va_Qq Post (vB D A) A) args s 0 0 A) (F0 m 73 ls []) := by
    intro k2 K2
    intro x3 V H locs ls hV hS hl h
    unfold vX1_firstPage_c73 at h
    obtain ⟨v_28, e_v_28⟩ : ∃ y : Int32, y = x3 + (1 : Int32) := ⟨_, rfl⟩
    replace h := h v_28 e_v_28
    refine lv_iinc (v := v_28) (lv' := [(3, .int v_28), (0, .ref a0), (1, .int a1), (2, .int a2)]) hx hb dX1_firstPage_73 hl (k := 3) rfl (by rw [kc_1, e_v_28]) (by decide) rfl (fun ls hl => ?_)
    refine lv_goto (tgt := 2) hx hb dX1_firstPage_76 (by decide) ?_
    exact K2 _ _ _ _ _ hV hS (lv_sub hl [1, 2, 3, 0] rfl) h
  have L2 : ∀ (n : Nat) (x3 : Int32) (V : VS) (H : Heap) (locs : List Loc) (ls : Array Slot), HV D A V H → va_S A s.heap H locs → lv_has ls 4 [(0, .ref a0), (1, .int a1), (2, .int a2), (3, .int x3)] → vX1_firstPage_l2 cA a0 a1 a2 Post n x3 V → W p l e rX1_firstPage s m args below meth c H locs 0 0 (MQ below (va_Qq Post (vB D A) A) args s 0 0 A) (F0 m 2 ls []) := by
    intro n
    induction n with
    | zero => intro x3 V H locs ls hV hS hl h; rw [vX1_firstPage_l2] at h; exact h.elim
    | succ n ih =>
      intro x3 V H locs ls hV hS hl h
      rw [vX1_firstPage_l2] at h
      refine lv_iload_n hx hb dX1_firstPage_2 rfl (lv_at hl 3 rfl) ?_
      refine lv_aload_n hx hb dX1_firstPage_3 rfl (lv_at hl 0 rfl) ?_
      obtain ⟨p_1, e_2, h⟩ := bO_e h
      refine vg_r S hK hV fX1_49 e_2 dX1_firstPage_4 ?_
      obtain ⟨n_3, z_n_3, h9⟩ := bO_e h
      clear h; subst z_n_3; have h := h9; clear h9
      obtain ⟨p_4, e_5, h⟩ := bO_e h
      refine vg_r S hK hV fX1_281 e_5 dX1_firstPage_7 ?_
      obtain ⟨n_6, z_n_6, h9⟩ := bO_e h
      clear h; subst z_n_6; have h := h9; clear h9
      obtain ⟨o_9, e_10, h⟩ := bO_e h
      refine vk_i (vr_V (As := []) (rest := [.int x3]) S hK hG hA hV hS e_10 rfl (mvJ2_size l n_6 V _ h) (cwV 0 S.2.2.2.2 (lw_V q972 q591 q592 q144 q593) rfl rfl rfl cdJ2_size ⟨Nat.le_of_ble_eq_true rfl, Nat.le_of_ble_eq_true rfl⟩) rfl hl.1 (Nat.le_of_ble_eq_true rfl) dX1_firstPage_10 ⟨Nat.le_refl _, Nat.le_refl _⟩) hS (fun r_7 V_8 H locs h hV hS => ?_)
      refine lv_icmp_ge (tgt := 79) hx hb dX1_firstPage_13 (by decide) (fun c_11 => ?_) (fun c_11 => ?_)
      · replace h := h.1 c_11
        refine lv_null hx hb dX1_firstPage_79 ?_
        exact ve_q (r := none) S hlocks hret (Or.inl ⟨_, rfl⟩) hV hS h (Nat.le_refl _) (Nat.le_refl _) dX1_firstPage_80
      · replace h := h.2 c_11
        refine lv_aload_n hx hb dX1_firstPage_16 rfl (lv_at hl 0 rfl) ?_
        obtain ⟨p_12, e_13, h⟩ := bO_e h
        refine vg_r S hK hV fX1_49 e_13 dX1_firstPage_17 ?_
        obtain ⟨n_14, z_n_14, h9⟩ := bO_e h
        clear h; subst z_n_14; have h := h9; clear h9
        obtain ⟨p_15, e_16, h⟩ := bO_e h
        refine vg_r S hK hV fX1_281 e_16 dX1_firstPage_20 ?_
        refine lv_iload_n hx hb dX1_firstPage_23 rfl (lv_at hl 3 rfl) ?_
        obtain ⟨n_17, z_n_17, h9⟩ := bO_e h
        clear h; subst z_n_17; have h := h9; clear h9
        obtain ⟨o_20, e_21, h⟩ := bO_e h
        refine vk_q (vr_V (As := [.int x3]) (rest := []) S hK hG hA hV hS e_21 rfl (mvJ2_get l n_17 x3 V_8 _ h) (cwV 1 S.2.2.2.2 (lw_V q973 q608 q609 q144 q610) rfl rfl rfl cdJ2_get ⟨Nat.le_of_ble_eq_true rfl, Nat.le_of_ble_eq_true rfl⟩) rfl hl.1 (Nat.le_of_ble_eq_true rfl) dX1_firstPage_24 ⟨Nat.le_refl _, Nat.le_refl _⟩) hS (fun p_18 V_19 H locs h hV hS => ?_)
        obtain ⟨n_22, z_n_22, h9⟩ := bO_e h
        clear h; subst z_n_22; have h := h9; clear h9
        obtain ⟨o_23, e_24, h⟩ := bO_e h
        refine v_cast S hK hV e_24 ct_SaidSo_Page q1139 dX1_firstPage_27 ?_
        obtain ⟨g_25, e_26, h⟩ := bO_e h
        refine vg_i S hK hV fX1_286 e_26 dX1_firstPage_30 ?_
        refine lv_iload_n hx hb dX1_firstPage_33 rfl (lv_at hl 1 rfl) ?_
        refine lv_icmp_ne (tgt := 73) hx hb dX1_firstPage_34 (by decide) (fun c_27 => ?_) (fun c_27 => ?_)
        · replace h := h.2 c_27
          exact C73 _ ih _ _ _ _ _ hV hS (lv_sub hl [0, 1, 2, 3] rfl) h
        · replace h := h.1 c_27
          refine lv_aload_n hx hb dX1_firstPage_37 rfl (lv_at hl 0 rfl) ?_
          obtain ⟨p_29, e_30, h⟩ := bO_e h
          refine vg_r S hK hV fX1_49 e_30 dX1_firstPage_38 ?_
          obtain ⟨n_31, z_n_31, h9⟩ := bO_e h
          clear h; subst z_n_31; have h := h9; clear h9
          obtain ⟨p_32, e_33, h⟩ := bO_e h
          refine vg_r S hK hV fX1_281 e_33 dX1_firstPage_41 ?_
          refine lv_iload_n hx hb dX1_firstPage_44 rfl (lv_at hl 3 rfl) ?_
          obtain ⟨n_34, z_n_34, h9⟩ := bO_e h
          clear h; subst z_n_34; have h := h9; clear h9
          obtain ⟨o_37, e_38, h⟩ := bO_e h
          refine vk_q (vr_V (As := [.int x3]) (rest := []) S hK hG hA hV hS e_38 rfl (mvJ2_get l n_34 x3 V_19 _ h) (cwV 1 S.2.2.2.2 (lw_V q973 q608 q609 q144 q610) rfl rfl rfl cdJ2_get ⟨Nat.le_of_ble_eq_true rfl, Nat.le_of_ble_eq_true rfl⟩) rfl hl.1 (Nat.le_of_ble_eq_true rfl) dX1_firstPage_45 ⟨Nat.le_refl _, Nat.le_refl _⟩) hS (fun p_35 V_36 H locs h hV hS => ?_)
          obtain ⟨n_39, z_n_39, h9⟩ := bO_e h
          clear h; subst z_n_39; have h := h9; clear h9
          obtain ⟨o_40, e_41, h⟩ := bO_e h
          refine v_cast S hK hV e_41 ct_SaidSo_Page q1139 dX1_firstPage_48 ?_
          obtain ⟨g_42, e_43, h⟩ := bO_e h
          refine vg_i S hK hV fX1_287 e_43 dX1_firstPage_51 ?_
          refine lv_iload_n hx hb dX1_firstPage_54 rfl (lv_at hl 2 rfl) ?_
          refine lv_icmp_ne (tgt := 73) hx hb dX1_firstPage_55 (by decide) (fun c_44 => ?_) (fun c_44 => ?_)
          · replace h := h.2 c_44
            exact C73 _ ih _ _ _ _ _ hV hS (lv_sub hl [0, 1, 2, 3] rfl) h
          · replace h := h.1 c_44
            refine lv_aload_n hx hb dX1_firstPage_58 rfl (lv_at hl 0 rfl) ?_
            obtain ⟨p_45, e_46, h⟩ := bO_e h
            refine vg_r S hK hV fX1_49 e_46 dX1_firstPage_59 ?_
            obtain ⟨n_47, z_n_47, h9⟩ := bO_e h
            clear h; subst z_n_47; have h := h9; clear h9
            obtain ⟨p_48, e_49, h⟩ := bO_e h
            refine vg_r S hK hV fX1_281 e_49 dX1_firstPage_62 ?_
            refine lv_iload_n hx hb dX1_firstPage_65 rfl (lv_at hl 3 rfl) ?_
            obtain ⟨n_50, z_n_50, h9⟩ := bO_e h
            clear h; subst z_n_50; have h := h9; clear h9
            obtain ⟨o_53, e_54, h⟩ := bO_e h
            refine vk_q (vr_V (As := [.int x3]) (rest := []) S hK hG hA hV hS e_54 rfl (mvJ2_get l n_50 x3 V_36 _ h) (cwV 1 S.2.2.2.2 (lw_V q973 q608 q609 q144 q610) rfl rfl rfl cdJ2_get ⟨Nat.le_of_ble_eq_true rfl, Nat.le_of_ble_eq_true rfl⟩) rfl hl.1 (Nat.le_of_ble_eq_true rfl) dX1_firstPage_66 ⟨Nat.le_refl _, Nat.le_refl _⟩) hS (fun p_51 V_52 H locs h hV hS => ?_)
            obtain ⟨n_55, z_n_55, h9⟩ := bO_e h
            clear h; subst z_n_55; have h := h9; clear h9
            obtain ⟨o_56, e_57, h⟩ := bO_e h
            refine v_cast S hK hV e_57 ct_SaidSo_Page q1139 dX1_firstPage_69 ?_
            exact ve_q (r := some n_55) S hlocks hret (Or.inl ⟨_, rfl⟩) hV hS h (Nat.le_refl _) (Nat.le_refl _) dX1_firstPage_72
  unfold vX1_firstPage at h
  refine lv_iconst hx hb dX1_firstPage_0 kc_0 ?_
  refine lv_istore_n (lv' := [(3, .int (0 : Int32)), (0, .ref a0), (1, .int a1), (2, .int a2)]) hx hb dX1_firstPage_1 rfl hl (by decide) rfl (fun ls hl => ?_)
  obtain ⟨f, h⟩ := h
  exact L2 f _ _ _ _ _ hV hS (lv_sub hl [1, 2, 3, 0] rfl) h
def vX1_odds_c236 (cA : Nat → ClassId) (a0 : Nat) (a1 : Int32) (a2 : Int32) (a3 : Int32) (Post : Int64 → VS → Prop) (V : VS) : Prop := (a3 = 0 → (bO (gJ V [1] a0 13) (fun g_47 => Post g_47 V))) ∧ (¬ (a3 = 0) → (bO (gJ V [1] a0 14) (fun g_45 => Post g_45 V)))
def vX1_odds_c230 (cA : Nat → ClassId) (a0 : Nat) (a1 : Int32) (a2 : Int32) (a3 : Int32) (k146 : Int32 → VS → Prop) (Post : Int64 → VS → Prop) (x4 : Int32) (V : VS) : Prop := ∀ v_55 : Int32, v_55 = x4 + (1 : Int32) → k146 v_55 V
def vX1_odds_c227 (cA : Nat → ClassId) (a0 : Nat) (a1 : Int32) (a2 : Int32) (a3 : Int32) (k146 : Int32 → VS → Prop) (Post : Int64 → VS → Prop) (x4 : Int32) (t0 : Int32) (t1 : Nat) (V : VS) : Prop := bO (vO V [1] a0) (fun o_89 => vX1_weigh_2 cA a0 t1 t0 V (fun V_88 => vX1_odds_c230 cA a0 a1 a2 a3 k146 Post x4 V_88))
def vX1_odds_l146 (cA : Nat → ClassId) (a0 : Nat) (a1 : Int32) (a2 : Int32) (a3 : Int32) (Post : Int64 → VS → Prop) : Nat → Int32 → VS → Prop
  | 0, _, _ => False
  | n + 1, x4, V => bO (gR V [1] a0 11) (fun p_33 => bO p_33 (fun n_35 => bO (gR V [3] n_35 0) (fun p_36 => bO p_36 (fun n_38 => bO (vO V [14] n_38) (fun o_41 => vJ2_size cA n_38 V (fun r_39 V_40 => (r_39 ≤ x4 → (vX1_odds_c236 cA a0 a1 a2 a3 Post V_40)) ∧ (¬ (r_39 ≤ x4) → ((a2 = (2 : Int32) → (bO (vO V_40 [1] a0) (fun o_52 => vX1_firstPage cA a0 a1 x4 V_40 (fun p_50 V_51 => (p_50 = none → (vX1_odds_c230 cA a0 a1 a2 a3 (vX1_odds_l146 cA a0 a1 a2 a3 Post n) Post x4 V_51)) ∧ (∀ n_54 : Nat, p_50 = some n_54 → (bO (gR V_51 [1] a0 11) (fun p_56 => bO p_56 (fun n_58 => bO (gR V_51 [3] n_58 0) (fun p_59 => bO p_59 (fun n_61 => bO (vO V_51 [14] n_61) (fun o_64 => vJ2_get cA n_61 x4 V_51 (fun p_62 V_63 => bO p_62 (fun n_66 => bO (vO V_63 [5] n_66) (fun o_67 => bO (gI V_63 [9] n_54 2) (fun g_69 => bO (gR V_63 [1] a0 11) (fun p_71 => bO p_71 (fun n_73 => bO (gR V_63 [3] n_73 0) (fun p_74 => bO p_74 (fun n_76 => bO (vO V_63 [14] n_76) (fun o_79 => vJ2_get cA n_76 x4 V_63 (fun p_77 V_78 => bO p_77 (fun n_81 => bO (vO V_78 [5] n_81) (fun o_82 => bO (gI V_78 [5] n_81 2) (fun g_84 => (g_69 = g_84 → (vX1_odds_c227 cA a0 a1 a2 a3 (vX1_odds_l146 cA a0 a1 a2 a3 Post n) Post x4 (1 : Int32) n_66 V_78)) ∧ (¬ (g_69 = g_84) → (vX1_odds_c227 cA a0 a1 a2 a3 (vX1_odds_l146 cA a0 a1 a2 a3 Post n) Post x4 (0 : Int32) n_66 V_78)))))))))))))))))))))))))) ∧ (¬ (a2 = (2 : Int32)) → (vX1_odds_c236 cA a0 a1 a2 a3 Post V_40))))))))))
def vX1_odds_c143 (cA : Nat → ClassId) (a0 : Nat) (a1 : Int32) (a2 : Int32) (a3 : Int32) (Post : Int64 → VS → Prop) (V : VS) : Prop := ∃ f, vX1_odds_l146 cA a0 a1 a2 a3 Post f (0 : Int32) V
def vX1_odds_c137 (cA : Nat → ClassId) (a0 : Nat) (a1 : Int32) (a2 : Int32) (a3 : Int32) (k57 : Int32 → VS → Prop) (Post : Int64 → VS → Prop) (x4 : Int32) (V : VS) : Prop := ∀ v_97 : Int32, v_97 = x4 + (1 : Int32) → k57 v_97 V
def vX1_odds_c113 (cA : Nat → ClassId) (a0 : Nat) (a1 : Int32) (a2 : Int32) (a3 : Int32) (k57 : Int32 → VS → Prop) (Post : Int64 → VS → Prop) (x4 : Int32) (x5 : Nat) (t0 : Int32) (t1 : Int32) (t2 : Int32) (V : VS) : Prop := ∀ v_103 : Int32, v_103 = t2 &&& (t1 ||| t0) → (v_103 = (2 : Int32) → (bO (gR V [7] x5 1) (fun p_105 => bO (vO V [7] x5) (fun o_109 => vX9_isRight cA x5 V (fun r_107 V_108 => bO p_105 (fun n_111 => bO (vO V_108 [1] a0) (fun o_114 => vX1_weigh_2 cA a0 n_111 r_107 V_108 (fun V_113 => vX1_odds_c137 cA a0 a1 a2 a3 k57 Post x4 V_113)))))))) ∧ (¬ (v_103 = (2 : Int32)) → (vX1_odds_c137 cA a0 a1 a2 a3 k57 Post x4 V))
def vX1_odds_l57 (cA : Nat → ClassId) (a0 : Nat) (a1 : Int32) (a2 : Int32) (a3 : Int32) (Post : Int64 → VS → Prop) : Nat → Int32 → VS → Prop
  | 0, _, _ => False
  | n + 1, x4, V => bO (gR V [1] a0 11) (fun p_22 => bO p_22 (fun n_24 => bO (gR V [3] n_24 2) (fun p_25 => bO p_25 (fun n_27 => bO (vO V [14] n_27) (fun o_30 => vJ2_size cA n_27 V (fun r_28 V_29 => (r_28 ≤ x4 → (vX1_odds_c143 cA a0 a1 a2 a3 Post V_29)) ∧ (¬ (r_28 ≤ x4) → (((2 : Int32) ≤ a2 → (vX1_odds_c143 cA a0 a1 a2 a3 Post V_29)) ∧ (¬ ((2 : Int32) ≤ a2) → (bO (vO V_29 [1] a0) (fun o_94 => vX1_word_2 cA a0 x4 a1 (-1 : Int32) V_29 (fun p_92 V_93 => (p_92 = none → (vX1_odds_c137 cA a0 a1 a2 a3 (vX1_odds_l57 cA a0 a1 a2 a3 Post n) Post x4 V_93)) ∧ (∀ n_96 : Nat, p_92 = some n_96 → (bO (vO V_93 [1] a0) (fun o_100 => vX1_bitsOf cA a0 x4 V_93 (fun r_98 V_99 => (a2 = 0 → (vX1_odds_c113 cA a0 a1 a2 a3 (vX1_odds_l57 cA a0 a1 a2 a3 Post n) Post x4 n_96 (16 : Int32) (14 : Int32) r_98 V_99)) ∧ (¬ (a2 = 0) → (vX1_odds_c113 cA a0 a1 a2 a3 (vX1_odds_l57 cA a0 a1 a2 a3 Post n) Post x4 n_96 (0 : Int32) (14 : Int32) r_98 V_99))))))))))))))))))
def vX1_odds (cA : Nat → ClassId) (a0 : Nat) (a1 : Int32) (a2 : Int32) (a3 : Int32) (V : VS) (Post : Int64 → VS → Prop) : Prop := bO (vO V [1] a0) (fun o_3 => vX1_isTeller cA a0 a1 V (fun r_1 V_2 => (r_1 = 0 → (Post (-1 : Int64) V_2)) ∧ (¬ (r_1 = 0) → (w1_in a2 (0 : Int32) (2 : Int32) (fun r_6 => (r_6 = 0 → (Post (-1 : Int64) V_2)) ∧ (¬ (r_6 = 0) → (w1_in a3 (0 : Int32) (1 : Int32) (fun r_8 => (r_8 = 0 → (Post (-1 : Int64) V_2)) ∧ (¬ (r_8 = 0) → (bO (pF V_2 [1] a0 13 (.long (1 : Int64))) (fun V_10 => bO (pF V_10 [1] a0 14 (.long (1 : Int64))) (fun V_12 => bO (gI V_12 [1] a0 8) (fun g_14 => bO (gI V_12 [1] a0 9) (fun g_16 => bO (vO V_12 [1] a0) (fun o_20 => vX1_weigh cA a0 g_14.toInt64 g_16.toInt64 V_12 (fun V_19 => ∃ f, vX1_odds_l57 cA a0 a1 a2 a3 Post f (0 : Int32) V_19))))))))))))))))
abbrev rX1_odds : Room := { frames := 103, cells := 0, slots := 0, locals := 6071 }
theorem cdX1_odds : yX1_odds.cls = RX1 ∧ yX1_odds.cls ≠ "java/lang/invoke/MethodHandle" ∧ yX1_odds.cls ≠ "java/lang/invoke/VarHandle" ∧ (parseMethodDescriptor yX1_odds.desc).map (fun d => d.parameters.length) = some 3 := by decide +kernel
set_option maxHeartbeats 4000000 in
set_option maxRecDepth 100000 in
theorem mvX1_odds (l : Launch) {D : va_G} {cA : Nat → ClassId} {A : Nat → Prop} (a0 : Nat) (a1 : Int32) (a2 : Int32) (a3 : Int32) (V : VS) (Post : Int64 → VS → Prop) (h : vX1_odds cA a0 a1 a2 a3 V Post) : Met l yX1_odds (ws_ yX1_odds cX1_odds 7 (some (.long))) rX1_odds (vPc [.ref a0, .int a1, .int a2, .int a3] D cA A V) (va_Ql Post (vB D A) A) 0 0 A := by
  refine vstM (own := RX1) (by decide) rfl (Nat.le_of_ble_eq_true rfl) ?_
  intro p e s m args below meth c ls X hret hV hS hl
  obtain ⟨S, hK, hG, hA, hnm, hlocks⟩ := X
  have hx := S.1
  have hb := S.2.1
  have hl : lv_has ls 7 [(0, .ref a0), (1, .int a1), (2, .int a2), (3, .int a3)] := hl
  have C236 : ∀ (V : VS) (H : Heap) (locs : List Loc) (ls : Array Slot), HV D A V H → va_S A s.heap H locs → lv_has ls 7 [(0, .ref a0), (1, .int a1), (2, .int a2), (3, .int a3)] → vX1_odds_c236 cA a0 a1 a2 a3 Post V → W p l e rX1_odds s m args below meth c H locs 0 0 (MQ below (va_Ql Post (vB D A) A) args s 0 0 A) (F0 m 236 ls []) := by
    intro V H locs ls hV hS hl h
    unfold vX1_odds_c236 at h
    refine lv_iload_n hx hb dX1_odds_236 rfl (lv_at hl 3 rfl) ?_
    refine lv_if_ne (tgt := 247) hx hb dX1_odds_237 (by decide) (fun c_44 => ?_) (fun c_44 => ?_)
    · replace h := h.2 c_44
      refine lv_aload_n hx hb dX1_odds_247 rfl (lv_at hl 0 rfl) ?_
      obtain ⟨g_45, e_46, h⟩ := bO_e h
      refine vg_l S hK hV fX1_272 e_46 dX1_odds_248 ?_
      exact ve_l S hlocks hret hV hS h (Nat.le_refl _) (Nat.le_refl _) dX1_odds_251
    · replace h := h.1 c_44
      refine lv_aload_n hx hb dX1_odds_240 rfl (lv_at hl 0 rfl) ?_
      obtain ⟨g_47, e_48, h⟩ := bO_e h
      refine vg_l S hK hV fX1_268 e_48 dX1_odds_241 ?_
      refine lv_goto (tgt := 251) hx hb dX1_odds_244 (by decide) ?_
      exact ve_l S hlocks hret hV hS h (Nat.le_refl _) (Nat.le_refl _) dX1_odds_251
  have C230 : ∀ (k146 : Int32 → VS → Prop) (K146 : (∀ (x4 : Int32) (V : VS) (H : Heap) (locs : List Loc) (ls : Array Slot), HV D A V H → va_S A s.heap H locs → lv_has ls 7 [(0, .ref a0), (1, .int a1), (2, .int a2), (3, .int a3), (4, .int x4)] → k146 x4 V → W p l e rX1_odds s m args below meth c H locs 0 0 (MQ below (va_Ql Post (vB D A) A) args s 0 0 A) (F0 m 146 ls []))), ∀ (x4 : Int32) (V : VS) (H : Heap) (locs : List Loc) (ls : Array Slot), HV D A V H → va_S A s.heap H locs → lv_has ls 7 [(0, .ref a0), (1, .int a1), (2, .int a2), (3, .int a3), (4, .int x4)] → vX1_odds_c230 cA a0 a1 a2 a3 k146 Post x4 V → W p l e rX1_odds s m args below meth c H locs 0 0 (MQ below (va_Ql Post (vB D A) A) args s 0 0 A) (F0 m 230 ls []) := by
    intro k146 K146
    intro x4 V H locs ls hV hS hl h
    unfold vX1_odds_c230 at h
    obtain ⟨v_55, e_v_55⟩ : ∃ y : Int32, y = x4 + (1 : Int32) := ⟨_, rfl⟩
    replace h := h v_55 e_v_55
    refine lv_iinc (v := v_55) (lv' := [(4, .int v_55), (0, .ref a0), (1, .int a1), (2, .int a2), (3, .int a3)]) hx hb dX1_odds_230 hl (k := 4) rfl (by rw [kc_1, e_v_55]) (by decide) rfl (fun ls hl => ?_)
    refine lv_goto (tgt := 146) hx hb dX1_odds_233 (by decide) ?_
    exact K146 _ _ _ _ _ hV hS (lv_sub hl [1, 2, 3, 4, 0] rfl) h
  have C227 : ∀ (k146 : Int32 → VS → Prop) (K146 : (∀ (x4 : Int32) (V : VS) (H : Heap) (locs : List Loc) (ls : Array Slot), HV D A V H → va_S A s.heap H locs → lv_has ls 7 [(0, .ref a0), (1, .int a1), (2, .int a2), (3, .int a3), (4, .int x4)] → k146 x4 V → W p l e rX1_odds s m args below meth c H locs 0 0 (MQ below (va_Ql Post (vB D A) A) args s 0 0 A) (F0 m 146 ls []))), ∀ (x4 : Int32) (t0 : Int32) (t1 : Nat) (V : VS) (H : Heap) (locs : List Loc) (ls : Array Slot), HV D A V H → va_S A s.heap H locs → lv_has ls 7 [(0, .ref a0), (1, .int a1), (2, .int a2), (3, .int a3), (4, .int x4)] → vX1_odds_c227 cA a0 a1 a2 a3 k146 Post x4 t0 t1 V → W p l e rX1_odds s m args below meth c H locs 0 0 (MQ below (va_Ql Post (vB D A) A) args s 0 0 A) (F0 m 227 ls [.int t0, .ref t1, .ref a0]) := by
    intro k146 K146
    intro x4 t0 t1 V H locs ls hV hS hl h
    unfold vX1_odds_c227 at h
    obtain ⟨o_89, e_90, h⟩ := bO_e h
    refine vk_v (vr_V (As := [.ref t1, .int t0]) (rest := []) S hK hG hA hV hS e_90 rfl (mvX1_weigh_2 l a0 t1 t0 V _ h) (cwV 2 S.2.2.2.2 (lw_V q1130 q1132 qs43 q139 q1133) rfl rfl rfl cdX1_weigh_2 ⟨Nat.le_of_ble_eq_true rfl, Nat.le_of_ble_eq_true rfl⟩) rfl hl.1 (Nat.le_of_ble_eq_true rfl) dX1_odds_227 ⟨Nat.le_refl _, Nat.le_refl _⟩) hS (fun V_88 H locs h hV hS => ?_)
    exact C230 _ K146 _ _ _ _ _ hV hS (lv_sub hl [0, 1, 2, 3, 4] rfl) h
  have L146 : ∀ (n : Nat) (x4 : Int32) (V : VS) (H : Heap) (locs : List Loc) (ls : Array Slot), HV D A V H → va_S A s.heap H locs → lv_has ls 7 [(0, .ref a0), (1, .int a1), (2, .int a2), (3, .int a3), (4, .int x4)] → vX1_odds_l146 cA a0 a1 a2 a3 Post n x4 V → W p l e rX1_odds s m args below meth c H locs 0 0 (MQ below (va_Ql Post (vB D A) A) args s 0 0 A) (F0 m 146 ls []) := by
    intro n
    induction n with
    | zero => intro x4 V H locs ls hV hS hl h; rw [vX1_odds_l146] at h; exact h.elim
    | succ n ih =>
      intro x4 V H locs ls hV hS hl h
      rw [vX1_odds_l146] at h
      refine lv_iload hx hb dX1_odds_146 (lv_at hl 4 rfl) ?_
      refine lv_aload_n hx hb dX1_odds_148 rfl (lv_at hl 0 rfl) ?_
      obtain ⟨p_33, e_34, h⟩ := bO_e h
      refine vg_r S hK hV fX1_49 e_34 dX1_odds_149 ?_
      obtain ⟨n_35, z_n_35, h9⟩ := bO_e h
      clear h; subst z_n_35; have h := h9; clear h9
      obtain ⟨p_36, e_37, h⟩ := bO_e h
      refine vg_r S hK hV fX1_125 e_37 dX1_odds_152 ?_
      obtain ⟨n_38, z_n_38, h9⟩ := bO_e h
      clear h; subst z_n_38; have h := h9; clear h9
      obtain ⟨o_41, e_42, h⟩ := bO_e h
      refine vk_i (vr_V (As := []) (rest := [.int x4]) S hK hG hA hV hS e_42 rfl (mvJ2_size l n_38 V _ h) (cwV 0 S.2.2.2.2 (lw_V q972 q591 q592 q144 q593) rfl rfl rfl cdJ2_size ⟨Nat.le_of_ble_eq_true rfl, Nat.le_of_ble_eq_true rfl⟩) rfl hl.1 (Nat.le_of_ble_eq_true rfl) dX1_odds_155 ⟨Nat.le_refl _, Nat.le_refl _⟩) hS (fun r_39 V_40 H locs h hV hS => ?_)
      refine lv_icmp_ge (tgt := 236) hx hb dX1_odds_158 (by decide) (fun c_43 => ?_) (fun c_43 => ?_)
      · replace h := h.1 c_43
        exact C236 _ _ _ _ hV hS (lv_sub hl [0, 1, 2, 3] rfl) h
      · replace h := h.2 c_43
        refine lv_iload_n hx hb dX1_odds_161 rfl (lv_at hl 2 rfl) ?_
        refine lv_iconst hx hb dX1_odds_162 kc_2 ?_
        refine lv_icmp_ne (tgt := 236) hx hb dX1_odds_163 (by decide) (fun c_49 => ?_) (fun c_49 => ?_)
        · replace h := h.2 c_49
          exact C236 _ _ _ _ hV hS (lv_sub hl [0, 1, 2, 3] rfl) h
        · replace h := h.1 c_49
          refine lv_aload_n hx hb dX1_odds_166 rfl (lv_at hl 0 rfl) ?_
          refine lv_iload_n hx hb dX1_odds_167 rfl (lv_at hl 1 rfl) ?_
          refine lv_iload hx hb dX1_odds_168 (lv_at hl 4 rfl) ?_
          obtain ⟨o_52, e_53, h⟩ := bO_e h
          refine vk_q (vr_V (As := [.int a1, .int x4]) (rest := []) S hK hG hA hV hS e_53 rfl (mvX1_firstPage l a0 a1 x4 V_40 _ h) (cwV 2 S.2.2.2.2 (lw_V q1135 q1137 qs44 q139 q1138) rfl rfl rfl cdX1_firstPage ⟨Nat.le_of_ble_eq_true rfl, Nat.le_of_ble_eq_true rfl⟩) rfl hl.1 (Nat.le_of_ble_eq_true rfl) dX1_odds_170 ⟨Nat.le_refl _, Nat.le_refl _⟩) hS (fun p_50 V_51 H locs h hV hS => ?_)
          refine lv_astoreQ (r := p_50) (lv' := [(5, va_rf p_50), (0, .ref a0), (1, .int a1), (2, .int a2), (3, .int a3), (4, .int x4)]) hx hb dX1_odds_173 hl (by decide) rfl (fun ls hl => ?_)
          refine lv_aloadQ hx hb dX1_odds_175 (lv_at hl 0 rfl) ?_
          rcases p_50 with _ | n_54
          · replace h := h.1 rfl
            refine lv_ifnullN (tgt := 230) hx hb dX1_odds_177 (by decide) ?_
            exact C230 _ ih _ _ _ _ _ hV hS (lv_sub hl [1, 2, 3, 4, 5] rfl) h
          · replace h := h.2 n_54 rfl
            refine lv_ifnull hx hb dX1_odds_177 ?_
            refine lv_aload_n hx hb dX1_odds_180 rfl (lv_at hl 1 rfl) ?_
            refine lv_aload_n hx hb dX1_odds_181 rfl (lv_at hl 1 rfl) ?_
            obtain ⟨p_56, e_57, h⟩ := bO_e h
            refine vg_r S hK hV fX1_49 e_57 dX1_odds_182 ?_
            obtain ⟨n_58, z_n_58, h9⟩ := bO_e h
            clear h; subst z_n_58; have h := h9; clear h9
            obtain ⟨p_59, e_60, h⟩ := bO_e h
            refine vg_r S hK hV fX1_125 e_60 dX1_odds_185 ?_
            refine lv_iload hx hb dX1_odds_188 (lv_at hl 5 rfl) ?_
            obtain ⟨n_61, z_n_61, h9⟩ := bO_e h
            clear h; subst z_n_61; have h := h9; clear h9
            obtain ⟨o_64, e_65, h⟩ := bO_e h
            refine vk_q (vr_V (As := [.int x4]) (rest := [.ref a0]) S hK hG hA hV hS e_65 rfl (mvJ2_get l n_61 x4 V_51 _ h) (cwV 1 S.2.2.2.2 (lw_V q973 q608 q609 q144 q610) rfl rfl rfl cdJ2_get ⟨Nat.le_of_ble_eq_true rfl, Nat.le_of_ble_eq_true rfl⟩) rfl hl.1 (Nat.le_of_ble_eq_true rfl) dX1_odds_190 ⟨Nat.le_refl _, Nat.le_refl _⟩) hS (fun p_62 V_63 H locs h hV hS => ?_)
            obtain ⟨n_66, z_n_66, h9⟩ := bO_e h
            clear h; subst z_n_66; have h := h9; clear h9
            obtain ⟨o_67, e_68, h⟩ := bO_e h
            refine v_cast S hK hV e_68 ct_SaidSo_Thing q1001 dX1_odds_193 ?_
            refine lv_aload hx hb dX1_odds_196 (lv_at hl 0 rfl) ?_
            obtain ⟨g_69, e_70, h⟩ := bO_e h
            refine vg_i S hK hV fX1_300 e_70 dX1_odds_198 ?_
            refine lv_aload_n hx hb dX1_odds_201 rfl (lv_at hl 1 rfl) ?_
            obtain ⟨p_71, e_72, h⟩ := bO_e h
            refine vg_r S hK hV fX1_49 e_72 dX1_odds_202 ?_
            obtain ⟨n_73, z_n_73, h9⟩ := bO_e h
            clear h; subst z_n_73; have h := h9; clear h9
            obtain ⟨p_74, e_75, h⟩ := bO_e h
            refine vg_r S hK hV fX1_125 e_75 dX1_odds_205 ?_
            refine lv_iload hx hb dX1_odds_208 (lv_at hl 5 rfl) ?_
            obtain ⟨n_76, z_n_76, h9⟩ := bO_e h
            clear h; subst z_n_76; have h := h9; clear h9
            obtain ⟨o_79, e_80, h⟩ := bO_e h
            refine vk_q (vr_V (As := [.int x4]) (rest := [.int g_69, .ref n_66, .ref a0]) S hK hG hA hV hS e_80 rfl (mvJ2_get l n_76 x4 V_63 _ h) (cwV 1 S.2.2.2.2 (lw_V q973 q608 q609 q144 q610) rfl rfl rfl cdJ2_get ⟨Nat.le_of_ble_eq_true rfl, Nat.le_of_ble_eq_true rfl⟩) rfl hl.1 (Nat.le_of_ble_eq_true rfl) dX1_odds_210 ⟨Nat.le_refl _, Nat.le_refl _⟩) hS (fun p_77 V_78 H locs h hV hS => ?_)
            obtain ⟨n_81, z_n_81, h9⟩ := bO_e h
            clear h; subst z_n_81; have h := h9; clear h9
            obtain ⟨o_82, e_83, h⟩ := bO_e h
            refine v_cast S hK hV e_83 ct_SaidSo_Thing q1001 dX1_odds_213 ?_
            obtain ⟨g_84, e_85, h⟩ := bO_e h
            refine vg_i S hK hV fX1_144 e_85 dX1_odds_216 ?_
            refine lv_icmp_ne (tgt := 226) hx hb dX1_odds_219 (by decide) (fun c_86 => ?_) (fun c_86 => ?_)
            · replace h := h.2 c_86
              refine lv_iconst hx hb dX1_odds_226 kc_0 ?_
              exact C227 _ ih _ _ _ _ _ _ _ hV hS (lv_sub hl [1, 2, 3, 4, 5] rfl) h
            · replace h := h.1 c_86
              refine lv_iconst hx hb dX1_odds_222 kc_1 ?_
              refine lv_goto (tgt := 227) hx hb dX1_odds_223 (by decide) ?_
              exact C227 _ ih _ _ _ _ _ _ _ hV hS (lv_sub hl [1, 2, 3, 4, 5] rfl) h
  have C143 : ∀ (V : VS) (H : Heap) (locs : List Loc) (ls : Array Slot), HV D A V H → va_S A s.heap H locs → lv_has ls 7 [(0, .ref a0), (1, .int a1), (2, .int a2), (3, .int a3)] → vX1_odds_c143 cA a0 a1 a2 a3 Post V → W p l e rX1_odds s m args below meth c H locs 0 0 (MQ below (va_Ql Post (vB D A) A) args s 0 0 A) (F0 m 143 ls []) := by
    intro V H locs ls hV hS hl h
    unfold vX1_odds_c143 at h
    refine lv_iconst hx hb dX1_odds_143 kc_0 ?_
    refine lv_istore (lv' := [(4, .int (0 : Int32)), (0, .ref a0), (1, .int a1), (2, .int a2), (3, .int a3)]) hx hb dX1_odds_144 hl (by decide) rfl (fun ls hl => ?_)
    obtain ⟨f, h⟩ := h
    exact L146 f _ _ _ _ _ hV hS (lv_sub hl [1, 2, 3, 4, 0] rfl) h
  have C137 : ∀ (k57 : Int32 → VS → Prop) (K57 : (∀ (x4 : Int32) (V : VS) (H : Heap) (locs : List Loc) (ls : Array Slot), HV D A V H → va_S A s.heap H locs → lv_has ls 7 [(0, .ref a0), (1, .int a1), (2, .int a2), (3, .int a3), (4, .int x4)] → k57 x4 V → W p l e rX1_odds s m args below meth c H locs 0 0 (MQ below (va_Ql Post (vB D A) A) args s 0 0 A) (F0 m 57 ls []))), ∀ (x4 : Int32) (V : VS) (H : Heap) (locs : List Loc) (ls : Array Slot), HV D A V H → va_S A s.heap H locs → lv_has ls 7 [(0, .ref a0), (1, .int a1), (2, .int a2), (3, .int a3), (4, .int x4)] → vX1_odds_c137 cA a0 a1 a2 a3 k57 Post x4 V → W p l e rX1_odds s m args below meth c H locs 0 0 (MQ below (va_Ql Post (vB D A) A) args s 0 0 A) (F0 m 137 ls []) := by
    intro k57 K57
    intro x4 V H locs ls hV hS hl h
    unfold vX1_odds_c137 at h
    obtain ⟨v_97, e_v_97⟩ : ∃ y : Int32, y = x4 + (1 : Int32) := ⟨_, rfl⟩
    replace h := h v_97 e_v_97
    refine lv_iinc (v := v_97) (lv' := [(4, .int v_97), (0, .ref a0), (1, .int a1), (2, .int a2), (3, .int a3)]) hx hb dX1_odds_137 hl (k := 4) rfl (by rw [kc_1, e_v_97]) (by decide) rfl (fun ls hl => ?_)
    refine lv_goto (tgt := 57) hx hb dX1_odds_140 (by decide) ?_
    exact K57 _ _ _ _ _ hV hS (lv_sub hl [1, 2, 3, 4, 0] rfl) h
  have C113 : ∀ (k57 : Int32 → VS → Prop) (K57 : (∀ (x4 : Int32) (V : VS) (H : Heap) (locs : List Loc) (ls : Array Slot), HV D A V H → va_S A s.heap H locs → lv_has ls 7 [(0, .ref a0), (1, .int a1), (2, .int a2), (3, .int a3), (4, .int x4)] → k57 x4 V → W p l e rX1_odds s m args below meth c H locs 0 0 (MQ below (va_Ql Post (vB D A) A) args s 0 0 A) (F0 m 57 ls []))), ∀ (x4 : Int32) (x5 : Nat) (t0 : Int32) (t1 : Int32) (t2 : Int32) (V : VS) (H : Heap) (locs : List Loc) (ls : Array Slot), HV D A V H → va_S A s.heap H locs → lv_has ls 7 [(0, .ref a0), (1, .int a1), (2, .int a2), (3, .int a3), (4, .int x4), (5, .ref x5)] → vX1_odds_c113 cA a0 a1 a2 a3 k57 Post x4 x5 t0 t1 t2 V → W p l e rX1_odds s m args below meth c H locs 0 0 (MQ below (va_Ql Post (vB D A) A) args s 0 0 A) (F0 m 113 ls [.int t0, .int t1, .int t2]) := by
    intro k57 K57
    intro x4 x5 t0 t1 t2 V H locs ls hV hS hl h
    unfold vX1_odds_c113 at h
    refine lv_ior hx hb dX1_odds_113 ?_
    refine lv_iand hx hb dX1_odds_114 ?_
    refine lv_topi (fun v_103 e_v_103 => ?_)
    replace h := h v_103 e_v_103
    refine lv_istore (lv' := [(6, .int v_103), (0, .ref a0), (1, .int a1), (2, .int a2), (3, .int a3), (4, .int x4), (5, .ref x5)]) hx hb dX1_odds_115 hl (by decide) rfl (fun ls hl => ?_)
    refine lv_iload hx hb dX1_odds_117 (lv_at hl 0 rfl) ?_
    refine lv_iconst hx hb dX1_odds_119 kc_2 ?_
    refine lv_icmp_ne (tgt := 137) hx hb dX1_odds_120 (by decide) (fun c_104 => ?_) (fun c_104 => ?_)
    · replace h := h.2 c_104
      exact C137 _ K57 _ _ _ _ _ hV hS (lv_sub hl [1, 2, 3, 4, 5] rfl) h
    · replace h := h.1 c_104
      refine lv_aload_n hx hb dX1_odds_123 rfl (lv_at hl 1 rfl) ?_
      refine lv_aload hx hb dX1_odds_124 (lv_at hl 6 rfl) ?_
      obtain ⟨p_105, e_106, h⟩ := bO_e h
      refine vg_r S hK hV fX1_290 e_106 dX1_odds_126 ?_
      refine lv_aload hx hb dX1_odds_129 (lv_at hl 6 rfl) ?_
      obtain ⟨o_109, e_110, h⟩ := bO_e h
      refine vk_i (vr_V (As := []) (rest := [va_rf p_105, .ref a0]) S hK hG hA hV hS e_110 rfl (mvX9_isRight l x5 V _ h) (cwV 0 S.2.2.2.2 (lw_V q1040 q1041 q1042 q162 q1043) rfl rfl rfl cdX9_isRight ⟨Nat.le_of_ble_eq_true rfl, Nat.le_of_ble_eq_true rfl⟩) rfl hl.1 (by cases p_105 <;> exact Nat.le_of_ble_eq_true rfl) dX1_odds_131 ⟨Nat.le_refl _, Nat.le_refl _⟩) hS (fun r_107 V_108 H locs h hV hS => ?_)
      obtain ⟨n_111, z_n_111, h9⟩ := bO_e h
      clear h; subst z_n_111; have h := h9; clear h9
      obtain ⟨o_114, e_115, h⟩ := bO_e h
      refine vk_v (vr_V (As := [.ref n_111, .int r_107]) (rest := []) S hK hG hA hV hS e_115 rfl (mvX1_weigh_2 l a0 n_111 r_107 V_108 _ h) (cwV 2 S.2.2.2.2 (lw_V q1130 q1132 qs43 q139 q1133) rfl rfl rfl cdX1_weigh_2 ⟨Nat.le_of_ble_eq_true rfl, Nat.le_of_ble_eq_true rfl⟩) rfl hl.1 (Nat.le_of_ble_eq_true rfl) dX1_odds_134 ⟨Nat.le_refl _, Nat.le_refl _⟩) hS (fun V_113 H locs h hV hS => ?_)
      exact C137 _ K57 _ _ _ _ _ hV hS (lv_sub hl [1, 2, 3, 4, 5] rfl) h
  have L57 : ∀ (n : Nat) (x4 : Int32) (V : VS) (H : Heap) (locs : List Loc) (ls : Array Slot), HV D A V H → va_S A s.heap H locs → lv_has ls 7 [(0, .ref a0), (1, .int a1), (2, .int a2), (3, .int a3), (4, .int x4)] → vX1_odds_l57 cA a0 a1 a2 a3 Post n x4 V → W p l e rX1_odds s m args below meth c H locs 0 0 (MQ below (va_Ql Post (vB D A) A) args s 0 0 A) (F0 m 57 ls []) := by
    intro n
    induction n with
    | zero => intro x4 V H locs ls hV hS hl h; rw [vX1_odds_l57] at h; exact h.elim
    | succ n ih =>
      intro x4 V H locs ls hV hS hl h
      rw [vX1_odds_l57] at h
      refine lv_iload hx hb dX1_odds_57 (lv_at hl 4 rfl) ?_
      refine lv_aload_n hx hb dX1_odds_59 rfl (lv_at hl 0 rfl) ?_
      obtain ⟨p_22, e_23, h⟩ := bO_e h
      refine vg_r S hK hV fX1_49 e_23 dX1_odds_60 ?_
      obtain ⟨n_24, z_n_24, h9⟩ := bO_e h
      clear h; subst z_n_24; have h := h9; clear h9
      obtain ⟨p_25, e_26, h⟩ := bO_e h
      refine vg_r S hK hV fX1_173 e_26 dX1_odds_63 ?_
      obtain ⟨n_27, z_n_27, h9⟩ := bO_e h
      clear h; subst z_n_27; have h := h9; clear h9
      obtain ⟨o_30, e_31, h⟩ := bO_e h
      refine vk_i (vr_V (As := []) (rest := [.int x4]) S hK hG hA hV hS e_31 rfl (mvJ2_size l n_27 V _ h) (cwV 0 S.2.2.2.2 (lw_V q972 q591 q592 q144 q593) rfl rfl rfl cdJ2_size ⟨Nat.le_of_ble_eq_true rfl, Nat.le_of_ble_eq_true rfl⟩) rfl hl.1 (Nat.le_of_ble_eq_true rfl) dX1_odds_66 ⟨Nat.le_refl _, Nat.le_refl _⟩) hS (fun r_28 V_29 H locs h hV hS => ?_)
      refine lv_icmp_ge (tgt := 143) hx hb dX1_odds_69 (by decide) (fun c_32 => ?_) (fun c_32 => ?_)
      · replace h := h.1 c_32
        exact C143 _ _ _ _ hV hS (lv_sub hl [0, 1, 2, 3] rfl) h
      · replace h := h.2 c_32
        refine lv_iload_n hx hb dX1_odds_72 rfl (lv_at hl 2 rfl) ?_
        refine lv_iconst hx hb dX1_odds_73 kc_2 ?_
        refine lv_icmp_ge (tgt := 143) hx hb dX1_odds_74 (by decide) (fun c_91 => ?_) (fun c_91 => ?_)
        · replace h := h.1 c_91
          exact C143 _ _ _ _ hV hS (lv_sub hl [0, 1, 2, 3] rfl) h
        · replace h := h.2 c_91
          refine lv_aload_n hx hb dX1_odds_77 rfl (lv_at hl 0 rfl) ?_
          refine lv_iload hx hb dX1_odds_78 (lv_at hl 4 rfl) ?_
          refine lv_iload_n hx hb dX1_odds_80 rfl (lv_at hl 1 rfl) ?_
          refine lv_iconst hx hb dX1_odds_81 kc_m1 ?_
          obtain ⟨o_94, e_95, h⟩ := bO_e h
          refine vk_q (vr_V (As := [.int x4, .int a1, .int (-1 : Int32)]) (rest := []) S hK hG hA hV hS e_95 rfl (mvX1_word_2 l a0 x4 a1 (-1 : Int32) V_29 _ h) (cwV 3 S.2.2.2.2 (lw_V q1048 q1050 qs38 q139 q1051) rfl rfl rfl cdX1_word_2 ⟨Nat.le_of_ble_eq_true rfl, Nat.le_of_ble_eq_true rfl⟩) rfl hl.1 (Nat.le_of_ble_eq_true rfl) dX1_odds_82 ⟨Nat.le_refl _, Nat.le_refl _⟩) hS (fun p_92 V_93 H locs h hV hS => ?_)
          refine lv_astoreQ (r := p_92) (lv' := [(5, va_rf p_92), (0, .ref a0), (1, .int a1), (2, .int a2), (3, .int a3), (4, .int x4)]) hx hb dX1_odds_85 hl (by decide) rfl (fun ls hl => ?_)
          refine lv_aloadQ hx hb dX1_odds_87 (lv_at hl 0 rfl) ?_
          rcases p_92 with _ | n_96
          · replace h := h.1 rfl
            refine lv_ifnonnullN hx hb dX1_odds_89 ?_
            refine lv_goto (tgt := 137) hx hb dX1_odds_92 (by decide) ?_
            exact C137 _ ih _ _ _ _ _ hV hS (lv_sub hl [1, 2, 3, 4, 5] rfl) h
          · replace h := h.2 n_96 rfl
            refine lv_ifnonnull (tgt := 95) hx hb dX1_odds_89 (by decide) ?_
            refine lv_aload_n hx hb dX1_odds_95 rfl (lv_at hl 1 rfl) ?_
            refine lv_iload hx hb dX1_odds_96 (lv_at hl 5 rfl) ?_
            obtain ⟨o_100, e_101, h⟩ := bO_e h
            refine vk_i (vr_V (As := [.int x4]) (rest := []) S hK hG hA hV hS e_101 rfl (mvX1_bitsOf l a0 x4 V_93 _ h) (cwV 1 S.2.2.2.2 (lw_V q1036 q1038 qs36 q139 q1039) rfl rfl rfl cdX1_bitsOf ⟨Nat.le_of_ble_eq_true rfl, Nat.le_of_ble_eq_true rfl⟩) rfl hl.1 (Nat.le_of_ble_eq_true rfl) dX1_odds_98 ⟨Nat.le_refl _, Nat.le_refl _⟩) hS (fun r_98 V_99 H locs h hV hS => ?_)
            refine lv_bipush hx hb dX1_odds_101 kb_14 ?_
            refine lv_iload_n hx hb dX1_odds_103 rfl (lv_at hl 3 rfl) ?_
            refine lv_if_ne (tgt := 112) hx hb dX1_odds_104 (by decide) (fun c_102 => ?_) (fun c_102 => ?_)
            · replace h := h.2 c_102
              refine lv_iconst hx hb dX1_odds_112 kc_0 ?_
              exact C113 _ ih _ _ _ _ _ _ _ _ _ hV hS (lv_sub hl [1, 2, 3, 4, 5, 0] rfl) h
            · replace h := h.1 c_102
              refine lv_bipush hx hb dX1_odds_107 kb_16 ?_
              refine lv_goto (tgt := 113) hx hb dX1_odds_109 (by decide) ?_
              exact C113 _ ih _ _ _ _ _ _ _ _ _ hV hS (lv_sub hl [1, 2, 3, 4, 5, 0] rfl) h
  unfold vX1_odds at h
  refine lv_aload_n hx hb dX1_odds_0 rfl (lv_at hl 0 rfl) ?_
  refine lv_iload_n hx hb dX1_odds_1 rfl (lv_at hl 1 rfl) ?_
  obtain ⟨o_3, e_4, h⟩ := bO_e h
  refine vk_i (vr_V (As := [.int a1]) (rest := []) S hK hG hA hV hS e_4 rfl (mvX1_isTeller l a0 a1 V _ h) (cwV 1 S.2.2.2.2 (lw_V q968 q970 qs31 q139 q971) rfl rfl rfl cdX1_isTeller ⟨Nat.le_of_ble_eq_true rfl, Nat.le_of_ble_eq_true rfl⟩) rfl hl.1 (Nat.le_of_ble_eq_true rfl) dX1_odds_2 ⟨Nat.le_refl _, Nat.le_refl _⟩) hS (fun r_1 V_2 H locs h hV hS => ?_)
  refine lv_if_eq (tgt := 26) hx hb dX1_odds_5 (by decide) (fun c_5 => ?_) (fun c_5 => ?_)
  · replace h := h.1 c_5
    refine lv_ldc2 (own := RX1) (v := -1) hx hb S.2.2.2.1 (S.2.2.2.2 _ q1122) dX1_odds_26 ?_
    exact ve_l S hlocks hret hV hS h (Nat.le_refl _) (Nat.le_refl _) dX1_odds_29
  · replace h := h.2 c_5
    refine lv_iload_n hx hb dX1_odds_8 rfl (lv_at hl 2 rfl) ?_
    refine lv_iconst hx hb dX1_odds_9 kc_0 ?_
    refine lv_iconst hx hb dX1_odds_10 kc_2 ?_
    refine sc_i S (As := [.int a2, .int (0 : Int32), .int (2 : Int32)]) (rest := []) (mt1_in l a2 (0 : Int32) (2 : Int32) _ h) (va_cwS 3 S.2.2.2.2 (lw_S q367 q368 q139 q369) rfl rfl rfl cdX1_in ⟨Nat.le_of_ble_eq_true rfl, Nat.le_of_ble_eq_true rfl⟩) rfl rfl hl.1 (Nat.le_of_ble_eq_true rfl) dX1_odds_11 ⟨Nat.le_refl _, Nat.le_refl _⟩ (fun r_6 h => ?_)
    refine lv_if_eq (tgt := 26) hx hb dX1_odds_14 (by decide) (fun c_7 => ?_) (fun c_7 => ?_)
    · replace h := h.1 c_7
      refine lv_ldc2 (own := RX1) (v := -1) hx hb S.2.2.2.1 (S.2.2.2.2 _ q1122) dX1_odds_26 ?_
      exact ve_l S hlocks hret hV hS h (Nat.le_refl _) (Nat.le_refl _) dX1_odds_29
    · replace h := h.2 c_7
      refine lv_iload_n hx hb dX1_odds_17 rfl (lv_at hl 3 rfl) ?_
      refine lv_iconst hx hb dX1_odds_18 kc_0 ?_
      refine lv_iconst hx hb dX1_odds_19 kc_1 ?_
      refine sc_i S (As := [.int a3, .int (0 : Int32), .int (1 : Int32)]) (rest := []) (mt1_in l a3 (0 : Int32) (1 : Int32) _ h) (va_cwS 3 S.2.2.2.2 (lw_S q367 q368 q139 q369) rfl rfl rfl cdX1_in ⟨Nat.le_of_ble_eq_true rfl, Nat.le_of_ble_eq_true rfl⟩) rfl rfl hl.1 (Nat.le_of_ble_eq_true rfl) dX1_odds_20 ⟨Nat.le_refl _, Nat.le_refl _⟩ (fun r_8 h => ?_)
      refine lv_if_ne (tgt := 30) hx hb dX1_odds_23 (by decide) (fun c_9 => ?_) (fun c_9 => ?_)
      · replace h := h.2 c_9
        refine lv_aload_n hx hb dX1_odds_30 rfl (lv_at hl 0 rfl) ?_
        refine lv_lconst (v := 1) hx hb dX1_odds_31 rfl ?_
        obtain ⟨V_10, e_11, h⟩ := bO_e h
        refine vp_v (v := .long (1 : Int64)) S hK hV hS fX1_268 (Or.inl rfl) rfl rfl e_11 dX1_odds_32 (fun H locs hV hS => ?_)
        refine lv_aload_n hx hb dX1_odds_35 rfl (lv_at hl 0 rfl) ?_
        refine lv_lconst (v := 1) hx hb dX1_odds_36 rfl ?_
        obtain ⟨V_12, e_13, h⟩ := bO_e h
        refine vp_v (v := .long (1 : Int64)) S hK hV hS fX1_272 (Or.inl rfl) rfl rfl e_13 dX1_odds_37 (fun H locs hV hS => ?_)
        refine lv_aload_n hx hb dX1_odds_40 rfl (lv_at hl 0 rfl) ?_
        refine lv_aload_n hx hb dX1_odds_41 rfl (lv_at hl 0 rfl) ?_
        obtain ⟨g_14, e_15, h⟩ := bO_e h
        refine vg_i S hK hV fX1_31 e_15 dX1_odds_42 ?_
        refine lv_i2l hx hb dX1_odds_45 rfl ?_
        refine lv_aload_n hx hb dX1_odds_46 rfl (lv_at hl 0 rfl) ?_
        obtain ⟨g_16, e_17, h⟩ := bO_e h
        refine vg_i S hK hV fX1_34 e_17 dX1_odds_47 ?_
        refine lv_i2l hx hb dX1_odds_50 rfl ?_
        obtain ⟨o_20, e_21, h⟩ := bO_e h
        refine vk_v (vr_V (As := [.long g_14.toInt64, .long g_16.toInt64]) (rest := []) S hK hG hA hV hS e_21 rfl (mvX1_weigh l a0 g_14.toInt64 g_16.toInt64 V_12 _ h) (cwV 2 S.2.2.2.2 (lw_V q1123 q1125 qs42 q139 q1126) rfl rfl rfl cdX1_weigh ⟨Nat.le_of_ble_eq_true rfl, Nat.le_of_ble_eq_true rfl⟩) rfl hl.1 (Nat.le_of_ble_eq_true rfl) dX1_odds_51 ⟨Nat.le_refl _, Nat.le_refl _⟩) hS (fun V_19 H locs h hV hS => ?_)
        refine lv_iconst hx hb dX1_odds_54 kc_0 ?_
        refine lv_istore (lv' := [(4, .int (0 : Int32)), (0, .ref a0), (1, .int a1), (2, .int a2), (3, .int a3)]) hx hb dX1_odds_55 hl (by decide) rfl (fun ls hl => ?_)
        obtain ⟨f, h⟩ := h
        exact L57 f _ _ _ _ _ hV hS (lv_sub hl [1, 2, 3, 4, 0] rfl) h
      · replace h := h.1 c_9
        refine lv_ldc2 (own := RX1) (v := -1) hx hb S.2.2.2.1 (S.2.2.2.2 _ q1122) dX1_odds_26 ?_
        exact ve_l S hlocks hret hV hS h (Nat.le_refl _) (Nat.le_refl _) dX1_odds_29
def vX1_latest_c40 (cA : Nat → ClassId) (a0 : Nat) (a1 : Int32) (a2 : Int32) (k5 : Option Nat → Int32 → VS → Prop) (Post : Option Nat → VS → Prop) (x3 : Option Nat) (x4 : Int32) (V : VS) : Prop := ∀ v_17 : Int32, v_17 = x4 + (1 : Int32) → k5 x3 v_17 V
def vX1_latest_l5 (cA : Nat → ClassId) (a0 : Nat) (a1 : Int32) (a2 : Int32) (Post : Option Nat → VS → Prop) : Nat → Option Nat → Int32 → VS → Prop
  | 0, _, _, _ => False
  | n + 1, x3, x4, V => bO (gR V [1] a0 11) (fun p_1 => bO p_1 (fun n_3 => bO (gR V [3] n_3 2) (fun p_4 => bO p_4 (fun n_6 => bO (vO V [14] n_6) (fun o_9 => vJ2_size cA n_6 V (fun r_7 V_8 => (r_7 ≤ x4 → (Post (x3) V_8)) ∧ (¬ (r_7 ≤ x4) → (bO (vO V_8 [1] a0) (fun o_14 => vX1_word_2 cA a0 x4 a1 a2 V_8 (fun p_12 V_13 => (p_12 = none → (vX1_latest_c40 cA a0 a1 a2 (vX1_latest_l5 cA a0 a1 a2 Post n) Post x3 x4 V_13)) ∧ (∀ n_16 : Nat, p_12 = some n_16 → (bO (vO V_13 [1] a0) (fun o_20 => vX1_word_2 cA a0 x4 a1 a2 V_13 (fun p_18 V_19 => vX1_latest_c40 cA a0 a1 a2 (vX1_latest_l5 cA a0 a1 a2 Post n) Post p_18 x4 V_19))))))))))))))
def vX1_latest (cA : Nat → ClassId) (a0 : Nat) (a1 : Int32) (a2 : Int32) (V : VS) (Post : Option Nat → VS → Prop) : Prop := ∃ f, vX1_latest_l5 cA a0 a1 a2 Post f none (0 : Int32) V
abbrev rX1_latest : Room := { frames := 5, cells := 0, slots := 0, locals := 112 }
theorem cdX1_latest : yX1_latest.cls = RX1 ∧ yX1_latest.cls ≠ "java/lang/invoke/MethodHandle" ∧ yX1_latest.cls ≠ "java/lang/invoke/VarHandle" ∧ (parseMethodDescriptor yX1_latest.desc).map (fun d => d.parameters.length) = some 2 := by decide +kernel
set_option maxHeartbeats 4000000 in
set_option maxRecDepth 100000 in
theorem mvX1_latest (l : Launch) {D : va_G} {cA : Nat → ClassId} {A : Nat → Prop} (a0 : Nat) (a1 : Int32) (a2 : Int32) (V : VS) (Post : Option Nat → VS → Prop) (h : vX1_latest cA a0 a1 a2 V Post) : Met l yX1_latest (ws_ yX1_latest cX1_latest 5 (some (.object "SaidSo$Word"))) rX1_latest (vPc [.ref a0, .int a1, .int a2] D cA A V) (va_Qq Post (vB D A) A) 0 0 A := by
  refine vstM (own := RX1) (by decide) rfl (Nat.le_of_ble_eq_true rfl) ?_
  intro p e s m args below meth c ls X hret hV hS hl
  obtain ⟨S, hK, hG, hA, hnm, hlocks⟩ := X
  have hx := S.1
  have hb := S.2.1
  have hl : lv_has ls 5 [(0, .ref a0), (1, .int a1), (2, .int a2)] := hl
  have C40 : ∀ (k5 : Option Nat → Int32 → VS → Prop) (K5 : (∀ (x3 : Option Nat) (x4 : Int32) (V : VS) (H : Heap) (locs : List Loc) (ls : Array Slot), HV D A V H → va_S A s.heap H locs → lv_has ls 5 [(0, .ref a0), (1, .int a1), (2, .int a2), (3, va_rf x3), (4, .int x4)] → k5 x3 x4 V → W p l e rX1_latest s m args below meth c H locs 0 0 (MQ below (va_Qq Post (vB D A) A) args s 0 0 A) (F0 m 5 ls []))), ∀ (x3 : Option Nat) (x4 : Int32) (V : VS) (H : Heap) (locs : List Loc) (ls : Array Slot), HV D A V H → va_S A s.heap H locs → lv_has ls 5 [(0, .ref a0), (1, .int a1), (2, .int a2), (3, va_rf x3), (4, .int x4)] → vX1_latest_c40 cA a0 a1 a2 k5 Post x3 x4 V → W p l e rX1_latest s m args below meth c H locs 0 0 (MQ below (va_Qq Post (vB D A) A) args s 0 0 A) (F0 m 40 ls []) := by
    intro k5 K5
    intro x3 x4 V H locs ls hV hS hl h
    unfold vX1_latest_c40 at h
    obtain ⟨v_17, e_v_17⟩ : ∃ y : Int32, y = x4 + (1 : Int32) := ⟨_, rfl⟩
    replace h := h v_17 e_v_17
    refine lv_iinc (v := v_17) (lv' := [(4, .int v_17), (0, .ref a0), (1, .int a1), (2, .int a2), (3, va_rf x3)]) hx hb dX1_latest_40 hl (k := 4) rfl (by rw [kc_1, e_v_17]) (by decide) (by cases x3 <;> rfl) (fun ls hl => ?_)
    refine lv_goto (tgt := 5) hx hb dX1_latest_43 (by decide) ?_
    exact K5 _ _ _ _ _ _ hV hS (lv_sub hl [1, 2, 3, 4, 0] rfl) h
  have L5 : ∀ (n : Nat) (x3 : Option Nat) (x4 : Int32) (V : VS) (H : Heap) (locs : List Loc) (ls : Array Slot), HV D A V H → va_S A s.heap H locs → lv_has ls 5 [(0, .ref a0), (1, .int a1), (2, .int a2), (3, va_rf x3), (4, .int x4)] → vX1_latest_l5 cA a0 a1 a2 Post n x3 x4 V → W p l e rX1_latest s m args below meth c H locs 0 0 (MQ below (va_Qq Post (vB D A) A) args s 0 0 A) (F0 m 5 ls []) := by
    intro n
    induction n with
    | zero => intro x3 x4 V H locs ls hV hS hl h; rw [vX1_latest_l5] at h; exact h.elim
    | succ n ih =>
      intro x3 x4 V H locs ls hV hS hl h
      rw [vX1_latest_l5] at h
      refine lv_iload hx hb dX1_latest_5 (lv_at hl 4 rfl) ?_
      refine lv_aload_n hx hb dX1_latest_7 rfl (lv_at hl 0 rfl) ?_
      obtain ⟨p_1, e_2, h⟩ := bO_e h
      refine vg_r S hK hV fX1_49 e_2 dX1_latest_8 ?_
      obtain ⟨n_3, z_n_3, h9⟩ := bO_e h
      clear h; subst z_n_3; have h := h9; clear h9
      obtain ⟨p_4, e_5, h⟩ := bO_e h
      refine vg_r S hK hV fX1_173 e_5 dX1_latest_11 ?_
      obtain ⟨n_6, z_n_6, h9⟩ := bO_e h
      clear h; subst z_n_6; have h := h9; clear h9
      obtain ⟨o_9, e_10, h⟩ := bO_e h
      refine vk_i (vr_V (As := []) (rest := [.int x4]) S hK hG hA hV hS e_10 rfl (mvJ2_size l n_6 V _ h) (cwV 0 S.2.2.2.2 (lw_V q972 q591 q592 q144 q593) rfl rfl rfl cdJ2_size ⟨Nat.le_of_ble_eq_true rfl, Nat.le_of_ble_eq_true rfl⟩) rfl hl.1 (Nat.le_of_ble_eq_true rfl) dX1_latest_14 ⟨Nat.le_refl _, Nat.le_refl _⟩) hS (fun r_7 V_8 H locs h hV hS => ?_)
      refine lv_icmp_ge (tgt := 46) hx hb dX1_latest_17 (by decide) (fun c_11 => ?_) (fun c_11 => ?_)
      · replace h := h.1 c_11
        refine lv_aload_nQ hx hb dX1_latest_46 rfl (lv_at hl 3 rfl) ?_
        exact ve_q (r := x3) S hlocks hret (Or.inl ⟨_, rfl⟩) hV hS h (Nat.le_refl _) (Nat.le_refl _) dX1_latest_47
      · replace h := h.2 c_11
        refine lv_aload_n hx hb dX1_latest_20 rfl (lv_at hl 0 rfl) ?_
        refine lv_iload hx hb dX1_latest_21 (lv_at hl 4 rfl) ?_
        refine lv_iload_n hx hb dX1_latest_23 rfl (lv_at hl 1 rfl) ?_
        refine lv_iload_n hx hb dX1_latest_24 rfl (lv_at hl 2 rfl) ?_
        obtain ⟨o_14, e_15, h⟩ := bO_e h
        refine vk_q (vr_V (As := [.int x4, .int a1, .int a2]) (rest := []) S hK hG hA hV hS e_15 rfl (mvX1_word_2 l a0 x4 a1 a2 V_8 _ h) (cwV 3 S.2.2.2.2 (lw_V q1048 q1050 qs38 q139 q1051) rfl rfl rfl cdX1_word_2 ⟨Nat.le_of_ble_eq_true rfl, Nat.le_of_ble_eq_true rfl⟩) rfl hl.1 (Nat.le_of_ble_eq_true rfl) dX1_latest_25 ⟨Nat.le_refl _, Nat.le_refl _⟩) hS (fun p_12 V_13 H locs h hV hS => ?_)
        rcases p_12 with _ | n_16
        · replace h := h.1 rfl
          refine lv_ifnullN (tgt := 40) hx hb dX1_latest_28 (by decide) ?_
          exact C40 _ ih _ _ _ _ _ _ hV hS (lv_sub hl [0, 1, 2, 3, 4] rfl) h
        · replace h := h.2 n_16 rfl
          refine lv_ifnull hx hb dX1_latest_28 ?_
          refine lv_aload_n hx hb dX1_latest_31 rfl (lv_at hl 0 rfl) ?_
          refine lv_iload hx hb dX1_latest_32 (lv_at hl 4 rfl) ?_
          refine lv_iload_n hx hb dX1_latest_34 rfl (lv_at hl 1 rfl) ?_
          refine lv_iload_n hx hb dX1_latest_35 rfl (lv_at hl 2 rfl) ?_
          obtain ⟨o_20, e_21, h⟩ := bO_e h
          refine vk_q (vr_V (As := [.int x4, .int a1, .int a2]) (rest := []) S hK hG hA hV hS e_21 rfl (mvX1_word_2 l a0 x4 a1 a2 V_13 _ h) (cwV 3 S.2.2.2.2 (lw_V q1048 q1050 qs38 q139 q1051) rfl rfl rfl cdX1_word_2 ⟨Nat.le_of_ble_eq_true rfl, Nat.le_of_ble_eq_true rfl⟩) rfl hl.1 (Nat.le_of_ble_eq_true rfl) dX1_latest_36 ⟨Nat.le_refl _, Nat.le_refl _⟩) hS (fun p_18 V_19 H locs h hV hS => ?_)
          refine lv_astore_nQ (r := p_18) (lv' := [(3, va_rf p_18), (0, .ref a0), (1, .int a1), (2, .int a2), (4, .int x4)]) hx hb dX1_latest_39 rfl hl (by decide) rfl (fun ls hl => ?_)
          exact C40 _ ih _ _ _ _ _ _ hV hS (lv_sub hl [1, 2, 3, 0, 4] rfl) h
  unfold vX1_latest at h
  refine lv_null hx hb dX1_latest_0 ?_
  refine lv_astore_nQ (r := none) (lv' := [(3, va_rf none), (0, .ref a0), (1, .int a1), (2, .int a2)]) hx hb dX1_latest_1 rfl hl (by decide) rfl (fun ls hl => ?_)
  refine lv_iconst hx hb dX1_latest_2 kc_0 ?_
  refine lv_istore (lv' := [(4, .int (0 : Int32)), (3, va_rf none), (0, .ref a0), (1, .int a1), (2, .int a2)]) hx hb dX1_latest_3 hl (by decide) rfl (fun ls hl => ?_)
  obtain ⟨f, h⟩ := h
  exact L5 f _ _ _ _ _ _ hV hS (lv_sub hl [2, 3, 4, 1, 0] rfl) h
def vX1_said_c54 (cA : Nat → ClassId) (a0 : Nat) (a1 : Int32) (a2 : Int32) (a3 : Int32) (k3 : Int32 → VS → Prop) (Post : Int32 → VS → Prop) (x4 : Int32) (V : VS) : Prop := ∀ v_17 : Int32, v_17 = x4 + (1 : Int32) → k3 v_17 V
def vX1_said_l3 (cA : Nat → ClassId) (a0 : Nat) (a1 : Int32) (a2 : Int32) (a3 : Int32) (Post : Int32 → VS → Prop) : Nat → Int32 → VS → Prop
  | 0, _, _ => False
  | n + 1, x4, V => bO (gR V [1] a0 11) (fun p_1 => bO p_1 (fun n_3 => bO (gR V [3] n_3 2) (fun p_4 => bO p_4 (fun n_6 => bO (vO V [14] n_6) (fun o_9 => vJ2_size cA n_6 V (fun r_7 V_8 => (r_7 ≤ x4 → (Post (-1 : Int32) V_8)) ∧ (¬ (r_7 ≤ x4) → (bO (vO V_8 [1] a0) (fun o_14 => vX1_word_2 cA a0 x4 a1 a2 V_8 (fun p_12 V_13 => (p_12 = none → (vX1_said_c54 cA a0 a1 a2 a3 (vX1_said_l3 cA a0 a1 a2 a3 Post n) Post x4 V_13)) ∧ (∀ n_16 : Nat, p_12 = some n_16 → (bO (gR V_13 [1] a0 11) (fun p_18 => bO p_18 (fun n_20 => bO (gR V_13 [3] n_20 2) (fun p_21 => bO p_21 (fun n_23 => bO (vO V_13 [14] n_23) (fun o_26 => vJ2_get cA n_23 x4 V_13 (fun p_24 V_25 => bO p_24 (fun n_28 => bO (vO V_25 [7, 8] n_28) (fun o_29 => bO (gI V_25 [7, 8] n_28 5) (fun g_31 => (g_31 = a3 → (Post x4 V_25)) ∧ (¬ (g_31 = a3) → (vX1_said_c54 cA a0 a1 a2 a3 (vX1_said_l3 cA a0 a1 a2 a3 Post n) Post x4 V_25)))))))))))))))))))))))
def vX1_said (cA : Nat → ClassId) (a0 : Nat) (a1 : Int32) (a2 : Int32) (a3 : Int32) (V : VS) (Post : Int32 → VS → Prop) : Prop := ∃ f, vX1_said_l3 cA a0 a1 a2 a3 Post f (0 : Int32) V
abbrev rX1_said : Room := { frames := 5, cells := 0, slots := 0, locals := 112 }
theorem cdX1_said : yX1_said.cls = RX1 ∧ yX1_said.cls ≠ "java/lang/invoke/MethodHandle" ∧ yX1_said.cls ≠ "java/lang/invoke/VarHandle" ∧ (parseMethodDescriptor yX1_said.desc).map (fun d => d.parameters.length) = some 3 := by decide +kernel
set_option maxHeartbeats 4000000 in
set_option maxRecDepth 100000 in
theorem mvX1_said (l : Launch) {D : va_G} {cA : Nat → ClassId} {A : Nat → Prop} (a0 : Nat) (a1 : Int32) (a2 : Int32) (a3 : Int32) (V : VS) (Post : Int32 → VS → Prop) (h : vX1_said cA a0 a1 a2 a3 V Post) : Met l yX1_said (ws_ yX1_said cX1_said 5 (some (.int))) rX1_said (vPc [.ref a0, .int a1, .int a2, .int a3] D cA A V) (va_Qi Post (vB D A) A) 0 0 A := by
  refine vstM (own := RX1) (by decide) rfl (Nat.le_of_ble_eq_true rfl) ?_
  intro p e s m args below meth c ls X hret hV hS hl
  obtain ⟨S, hK, hG, hA, hnm, hlocks⟩ := X
  have hx := S.1
  have hb := S.2.1
  have hl : lv_has ls 5 [(0, .ref a0), (1, .int a1), (2, .int a2), (3, .int a3)] := hl
  have C54 : ∀ (k3 : Int32 → VS → Prop) (K3 : (∀ (x4 : Int32) (V : VS) (H : Heap) (locs : List Loc) (ls : Array Slot), HV D A V H → va_S A s.heap H locs → lv_has ls 5 [(0, .ref a0), (1, .int a1), (2, .int a2), (3, .int a3), (4, .int x4)] → k3 x4 V → W p l e rX1_said s m args below meth c H locs 0 0 (MQ below (va_Qi Post (vB D A) A) args s 0 0 A) (F0 m 3 ls []))), ∀ (x4 : Int32) (V : VS) (H : Heap) (locs : List Loc) (ls : Array Slot), HV D A V H → va_S A s.heap H locs → lv_has ls 5 [(0, .ref a0), (1, .int a1), (2, .int a2), (3, .int a3), (4, .int x4)] → vX1_said_c54 cA a0 a1 a2 a3 k3 Post x4 V → W p l e rX1_said s m args below meth c H locs 0 0 (MQ below (va_Qi Post (vB D A) A) args s 0 0 A) (F0 m 54 ls []) := by
    intro k3 K3
    intro x4 V H locs ls hV hS hl h
    unfold vX1_said_c54 at h
    obtain ⟨v_17, e_v_17⟩ : ∃ y : Int32, y = x4 + (1 : Int32) := ⟨_, rfl⟩
    replace h := h v_17 e_v_17
    refine lv_iinc (v := v_17) (lv' := [(4, .int v_17), (0, .ref a0), (1, .int a1), (2, .int a2), (3, .int a3)]) hx hb dX1_said_54 hl (k := 4) rfl (by rw [kc_1, e_v_17]) (by decide) rfl (fun ls hl => ?_)
    refine lv_goto (tgt := 3) hx hb dX1_said_57 (by decide) ?_
    exact K3 _ _ _ _ _ hV hS (lv_sub hl [1, 2, 3, 4, 0] rfl) h
  have L3 : ∀ (n : Nat) (x4 : Int32) (V : VS) (H : Heap) (locs : List Loc) (ls : Array Slot), HV D A V H → va_S A s.heap H locs → lv_has ls 5 [(0, .ref a0), (1, .int a1), (2, .int a2), (3, .int a3), (4, .int x4)] → vX1_said_l3 cA a0 a1 a2 a3 Post n x4 V → W p l e rX1_said s m args below meth c H locs 0 0 (MQ below (va_Qi Post (vB D A) A) args s 0 0 A) (F0 m 3 ls []) := by
    intro n
    induction n with
    | zero => intro x4 V H locs ls hV hS hl h; rw [vX1_said_l3] at h; exact h.elim
    | succ n ih =>
      intro x4 V H locs ls hV hS hl h
      rw [vX1_said_l3] at h
      refine lv_iload hx hb dX1_said_3 (lv_at hl 4 rfl) ?_
      refine lv_aload_n hx hb dX1_said_5 rfl (lv_at hl 0 rfl) ?_
      obtain ⟨p_1, e_2, h⟩ := bO_e h
      refine vg_r S hK hV fX1_49 e_2 dX1_said_6 ?_
      obtain ⟨n_3, z_n_3, h9⟩ := bO_e h
      clear h; subst z_n_3; have h := h9; clear h9
      obtain ⟨p_4, e_5, h⟩ := bO_e h
      refine vg_r S hK hV fX1_173 e_5 dX1_said_9 ?_
      obtain ⟨n_6, z_n_6, h9⟩ := bO_e h
      clear h; subst z_n_6; have h := h9; clear h9
      obtain ⟨o_9, e_10, h⟩ := bO_e h
      refine vk_i (vr_V (As := []) (rest := [.int x4]) S hK hG hA hV hS e_10 rfl (mvJ2_size l n_6 V _ h) (cwV 0 S.2.2.2.2 (lw_V q972 q591 q592 q144 q593) rfl rfl rfl cdJ2_size ⟨Nat.le_of_ble_eq_true rfl, Nat.le_of_ble_eq_true rfl⟩) rfl hl.1 (Nat.le_of_ble_eq_true rfl) dX1_said_12 ⟨Nat.le_refl _, Nat.le_refl _⟩) hS (fun r_7 V_8 H locs h hV hS => ?_)
      refine lv_icmp_ge (tgt := 60) hx hb dX1_said_15 (by decide) (fun c_11 => ?_) (fun c_11 => ?_)
      · replace h := h.1 c_11
        refine lv_iconst hx hb dX1_said_60 kc_m1 ?_
        exact ve_i S hlocks hret hV hS h rfl (Nat.le_refl _) (Nat.le_refl _) dX1_said_61
      · replace h := h.2 c_11
        refine lv_aload_n hx hb dX1_said_18 rfl (lv_at hl 0 rfl) ?_
        refine lv_iload hx hb dX1_said_19 (lv_at hl 4 rfl) ?_
        refine lv_iload_n hx hb dX1_said_21 rfl (lv_at hl 1 rfl) ?_
        refine lv_iload_n hx hb dX1_said_22 rfl (lv_at hl 2 rfl) ?_
        obtain ⟨o_14, e_15, h⟩ := bO_e h
        refine vk_q (vr_V (As := [.int x4, .int a1, .int a2]) (rest := []) S hK hG hA hV hS e_15 rfl (mvX1_word_2 l a0 x4 a1 a2 V_8 _ h) (cwV 3 S.2.2.2.2 (lw_V q1048 q1050 qs38 q139 q1051) rfl rfl rfl cdX1_word_2 ⟨Nat.le_of_ble_eq_true rfl, Nat.le_of_ble_eq_true rfl⟩) rfl hl.1 (Nat.le_of_ble_eq_true rfl) dX1_said_23 ⟨Nat.le_refl _, Nat.le_refl _⟩) hS (fun p_12 V_13 H locs h hV hS => ?_)
        rcases p_12 with _ | n_16
        · replace h := h.1 rfl
          refine lv_ifnullN (tgt := 54) hx hb dX1_said_26 (by decide) ?_
          exact C54 _ ih _ _ _ _ _ hV hS (lv_sub hl [0, 1, 2, 3, 4] rfl) h
        · replace h := h.2 n_16 rfl
          refine lv_ifnull hx hb dX1_said_26 ?_
          refine lv_aload_n hx hb dX1_said_29 rfl (lv_at hl 0 rfl) ?_
          obtain ⟨p_18, e_19, h⟩ := bO_e h
          refine vg_r S hK hV fX1_49 e_19 dX1_said_30 ?_
          obtain ⟨n_20, z_n_20, h9⟩ := bO_e h
          clear h; subst z_n_20; have h := h9; clear h9
          obtain ⟨p_21, e_22, h⟩ := bO_e h
          refine vg_r S hK hV fX1_173 e_22 dX1_said_33 ?_
          refine lv_iload hx hb dX1_said_36 (lv_at hl 4 rfl) ?_
          obtain ⟨n_23, z_n_23, h9⟩ := bO_e h
          clear h; subst z_n_23; have h := h9; clear h9
          obtain ⟨o_26, e_27, h⟩ := bO_e h
          refine vk_q (vr_V (As := [.int x4]) (rest := []) S hK hG hA hV hS e_27 rfl (mvJ2_get l n_23 x4 V_13 _ h) (cwV 1 S.2.2.2.2 (lw_V q973 q608 q609 q144 q610) rfl rfl rfl cdJ2_get ⟨Nat.le_of_ble_eq_true rfl, Nat.le_of_ble_eq_true rfl⟩) rfl hl.1 (Nat.le_of_ble_eq_true rfl) dX1_said_38 ⟨Nat.le_refl _, Nat.le_refl _⟩) hS (fun p_24 V_25 H locs h hV hS => ?_)
          obtain ⟨n_28, z_n_28, h9⟩ := bO_e h
          clear h; subst z_n_28; have h := h9; clear h9
          obtain ⟨o_29, e_30, h⟩ := bO_e h
          refine v_cast S hK hV e_30 ct_SaidSo_Line q983 dX1_said_41 ?_
          obtain ⟨g_31, e_32, h⟩ := bO_e h
          refine vg_i S hK hV fX1_199 e_32 dX1_said_44 ?_
          refine lv_iload_n hx hb dX1_said_47 rfl (lv_at hl 3 rfl) ?_
          refine lv_icmp_ne (tgt := 54) hx hb dX1_said_48 (by decide) (fun c_33 => ?_) (fun c_33 => ?_)
          · replace h := h.2 c_33
            exact C54 _ ih _ _ _ _ _ hV hS (lv_sub hl [0, 1, 2, 3, 4] rfl) h
          · replace h := h.1 c_33
            refine lv_iload hx hb dX1_said_51 (lv_at hl 4 rfl) ?_
            exact ve_i S hlocks hret hV hS h rfl (Nat.le_refl _) (Nat.le_refl _) dX1_said_53
  unfold vX1_said at h
  refine lv_iconst hx hb dX1_said_0 kc_0 ?_
  refine lv_istore (lv' := [(4, .int (0 : Int32)), (0, .ref a0), (1, .int a1), (2, .int a2), (3, .int a3)]) hx hb dX1_said_1 hl (by decide) rfl (fun ls hl => ?_)
  obtain ⟨f, h⟩ := h
  exact L3 f _ _ _ _ _ hV hS (lv_sub hl [1, 2, 3, 4, 0] rfl) h
def vX1_kindOf (cA : Nat → ClassId) (a0 : Nat) (a1 : Nat) (V : VS) (Post : Int32 → VS → Prop) : Prop := bO (gI V [9] a1 0) (fun g_1 => bO (gI V [9] a1 1) (fun g_3 => bO (vO V [1] a0) (fun o_7 => vX1_latest cA a0 g_1 g_3 V (fun p_5 V_6 => (p_5 = none → (Post (3 : Int32) V_6)) ∧ (∀ n_9 : Nat, p_5 = some n_9 → (bO (gI V_6 [7] n_9 5) (fun g_10 => bO (gI V_6 [9] a1 2) (fun g_12 => (g_10 = g_12 → (Post (0 : Int32) V_6)) ∧ (¬ (g_10 = g_12) → (bO (gI V_6 [9] a1 0) (fun g_15 => bO (gI V_6 [9] a1 1) (fun g_17 => bO (gI V_6 [9] a1 2) (fun g_19 => bO (vO V_6 [1] a0) (fun o_23 => vX1_said cA a0 g_15 g_17 g_19 V_6 (fun r_21 V_22 => (r_21 = (-1 : Int32) → (Post (2 : Int32) V_22)) ∧ (¬ (r_21 = (-1 : Int32)) → (Post (1 : Int32) V_22)))))))))))))))))
abbrev rX1_kindOf : Room := { frames := 6, cells := 0, slots := 0, locals := 136 }
theorem cdX1_kindOf : yX1_kindOf.cls = RX1 ∧ yX1_kindOf.cls ≠ "java/lang/invoke/MethodHandle" ∧ yX1_kindOf.cls ≠ "java/lang/invoke/VarHandle" ∧ (parseMethodDescriptor yX1_kindOf.desc).map (fun d => d.parameters.length) = some 1 := by decide +kernel
set_option maxHeartbeats 4000000 in
set_option maxRecDepth 100000 in
theorem mvX1_kindOf (l : Launch) {D : va_G} {cA : Nat → ClassId} {A : Nat → Prop} (a0 : Nat) (a1 : Nat) (V : VS) (Post : Int32 → VS → Prop) (h : vX1_kindOf cA a0 a1 V Post) : Met l yX1_kindOf (ws_ yX1_kindOf cX1_kindOf 3 (some (.int))) rX1_kindOf (vPc [.ref a0, .ref a1] D cA A V) (va_Qi Post (vB D A) A) 0 0 A := by
  refine vstM (own := RX1) (by decide) rfl (Nat.le_of_ble_eq_true rfl) ?_
  intro p e s m args below meth c ls X hret hV hS hl
  obtain ⟨S, hK, hG, hA, hnm, hlocks⟩ := X
  have hx := S.1
  have hb := S.2.1
  have hl : lv_has ls 3 [(0, .ref a0), (1, .ref a1)] := hl
  unfold vX1_kindOf at h
  refine lv_aload_n hx hb dX1_kindOf_0 rfl (lv_at hl 0 rfl) ?_
  refine lv_aload_n hx hb dX1_kindOf_1 rfl (lv_at hl 1 rfl) ?_
  obtain ⟨g_1, e_2, h⟩ := bO_e h
  refine vg_i S hK hV fX1_286 e_2 dX1_kindOf_2 ?_
  refine lv_aload_n hx hb dX1_kindOf_5 rfl (lv_at hl 1 rfl) ?_
  obtain ⟨g_3, e_4, h⟩ := bO_e h
  refine vg_i S hK hV fX1_287 e_4 dX1_kindOf_6 ?_
  obtain ⟨o_7, e_8, h⟩ := bO_e h
  refine vk_q (vr_V (As := [.int g_1, .int g_3]) (rest := []) S hK hG hA hV hS e_8 rfl (mvX1_latest l a0 g_1 g_3 V _ h) (cwV 2 S.2.2.2.2 (lw_V q1148 q1150 qs46 q139 q1151) rfl rfl rfl cdX1_latest ⟨Nat.le_of_ble_eq_true rfl, Nat.le_of_ble_eq_true rfl⟩) rfl hl.1 (Nat.le_of_ble_eq_true rfl) dX1_kindOf_9 ⟨Nat.le_refl _, Nat.le_refl _⟩) hS (fun p_5 V_6 H locs h hV hS => ?_)
  refine lv_astore_nQ (r := p_5) (lv' := [(2, va_rf p_5), (0, .ref a0), (1, .ref a1)]) hx hb dX1_kindOf_12 rfl hl (by decide) rfl (fun ls hl => ?_)
  refine lv_aload_nQ hx hb dX1_kindOf_13 rfl (lv_at hl 0 rfl) ?_
  rcases p_5 with _ | n_9
  · replace h := h.1 rfl
    refine lv_ifnonnullN hx hb dX1_kindOf_14 ?_
    refine lv_iconst hx hb dX1_kindOf_17 kc_3 ?_
    refine lv_goto (tgt := 61) hx hb dX1_kindOf_18 (by decide) ?_
    exact ve_i S hlocks hret hV hS h rfl (Nat.le_refl _) (Nat.le_refl _) dX1_kindOf_61
  · replace h := h.2 n_9 rfl
    refine lv_ifnonnull (tgt := 21) hx hb dX1_kindOf_14 (by decide) ?_
    refine lv_aload_n hx hb dX1_kindOf_21 rfl (lv_at hl 0 rfl) ?_
    obtain ⟨g_10, e_11, h⟩ := bO_e h
    refine vg_i S hK hV fX1_304 e_11 dX1_kindOf_22 ?_
    refine lv_aload_n hx hb dX1_kindOf_25 rfl (lv_at hl 2 rfl) ?_
    obtain ⟨g_12, e_13, h⟩ := bO_e h
    refine vg_i S hK hV fX1_300 e_13 dX1_kindOf_26 ?_
    refine lv_icmp_ne (tgt := 36) hx hb dX1_kindOf_29 (by decide) (fun c_14 => ?_) (fun c_14 => ?_)
    · replace h := h.2 c_14
      refine lv_aload_n hx hb dX1_kindOf_36 rfl (lv_at hl 1 rfl) ?_
      refine lv_aload_n hx hb dX1_kindOf_37 rfl (lv_at hl 2 rfl) ?_
      obtain ⟨g_15, e_16, h⟩ := bO_e h
      refine vg_i S hK hV fX1_286 e_16 dX1_kindOf_38 ?_
      refine lv_aload_n hx hb dX1_kindOf_41 rfl (lv_at hl 2 rfl) ?_
      obtain ⟨g_17, e_18, h⟩ := bO_e h
      refine vg_i S hK hV fX1_287 e_18 dX1_kindOf_42 ?_
      refine lv_aload_n hx hb dX1_kindOf_45 rfl (lv_at hl 2 rfl) ?_
      obtain ⟨g_19, e_20, h⟩ := bO_e h
      refine vg_i S hK hV fX1_300 e_20 dX1_kindOf_46 ?_
      obtain ⟨o_23, e_24, h⟩ := bO_e h
      refine vk_i (vr_V (As := [.int g_15, .int g_17, .int g_19]) (rest := []) S hK hG hA hV hS e_24 rfl (mvX1_said l a0 g_15 g_17 g_19 V_6 _ h) (cwV 3 S.2.2.2.2 (lw_V q1152 q1154 qs47 q139 q1155) rfl rfl rfl cdX1_said ⟨Nat.le_of_ble_eq_true rfl, Nat.le_of_ble_eq_true rfl⟩) rfl hl.1 (Nat.le_of_ble_eq_true rfl) dX1_kindOf_49 ⟨Nat.le_refl _, Nat.le_refl _⟩) hS (fun r_21 V_22 H locs h hV hS => ?_)
      refine lv_iconst hx hb dX1_kindOf_52 kc_m1 ?_
      refine lv_icmp_eq (tgt := 60) hx hb dX1_kindOf_53 (by decide) (fun c_25 => ?_) (fun c_25 => ?_)
      · replace h := h.1 c_25
        refine lv_iconst hx hb dX1_kindOf_60 kc_2 ?_
        exact ve_i S hlocks hret hV hS h rfl (Nat.le_refl _) (Nat.le_refl _) dX1_kindOf_61
      · replace h := h.2 c_25
        refine lv_iconst hx hb dX1_kindOf_56 kc_1 ?_
        refine lv_goto (tgt := 61) hx hb dX1_kindOf_57 (by decide) ?_
        exact ve_i S hlocks hret hV hS h rfl (Nat.le_refl _) (Nat.le_refl _) dX1_kindOf_61
    · replace h := h.1 c_14
      refine lv_iconst hx hb dX1_kindOf_32 kc_0 ?_
      refine lv_goto (tgt := 61) hx hb dX1_kindOf_33 (by decide) ?_
      exact ve_i S hlocks hret hV hS h rfl (Nat.le_refl _) (Nat.le_refl _) dX1_kindOf_61
def vX1_page (cA : Nat → ClassId) (a0 : Nat) (a1 : Int32) (V : VS) (Post : Int32 → VS → Prop) : Prop := bO (gR V [1] a0 11) (fun p_1 => bO p_1 (fun n_3 => bO (gR V [3] n_3 3) (fun p_4 => bO p_4 (fun n_6 => bO (vO V [14] n_6) (fun o_9 => vJ2_size cA n_6 V (fun r_7 V_8 => w1_in a1 (0 : Int32) (r_7 - (1 : Int32)) (fun r_11 => (r_11 = 0 → (Post (-1 : Int32) V_8)) ∧ (¬ (r_11 = 0) → (bO (gR V_8 [1] a0 11) (fun p_13 => bO p_13 (fun n_15 => bO (gR V_8 [3] n_15 3) (fun p_16 => bO p_16 (fun n_18 => bO (vO V_8 [14] n_18) (fun o_21 => vJ2_get cA n_18 a1 V_8 (fun p_19 V_20 => bO p_19 (fun n_23 => bO (vO V_20 [9] n_23) (fun o_24 => bO (vO V_20 [1] a0) (fun o_28 => vX1_kindOf cA a0 n_23 V_20 (fun r_26 V_27 => Post r_26 V_27)))))))))))))))))))
abbrev rX1_page : Room := { frames := 7, cells := 0, slots := 0, locals := 158 }
theorem cdX1_page : yX1_page.cls = RX1 ∧ yX1_page.cls ≠ "java/lang/invoke/MethodHandle" ∧ yX1_page.cls ≠ "java/lang/invoke/VarHandle" ∧ (parseMethodDescriptor yX1_page.desc).map (fun d => d.parameters.length) = some 1 := by decide +kernel
set_option maxHeartbeats 4000000 in
set_option maxRecDepth 100000 in
theorem mvX1_page (l : Launch) {D : va_G} {cA : Nat → ClassId} {A : Nat → Prop} (a0 : Nat) (a1 : Int32) (V : VS) (Post : Int32 → VS → Prop) (h : vX1_page cA a0 a1 V Post) : Met l yX1_page (ws_ yX1_page cX1_page 2 (some (.int))) rX1_page (vPc [.ref a0, .int a1] D cA A V) (va_Qi Post (vB D A) A) 0 0 A := by
  refine vstM (own := RX1) (by decide) rfl (Nat.le_of_ble_eq_true rfl) ?_
  intro p e s m args below meth c ls X hret hV hS hl
  obtain ⟨S, hK, hG, hA, hnm, hlocks⟩ := X
  have hx := S.1
  have hb := S.2.1
  have hl : lv_has ls 2 [(0, .ref a0), (1, .int a1)] := hl
  unfold vX1_page at h
  refine lv_iload_n hx hb dX1_page_0 rfl (lv_at hl 1 rfl) ?_
  refine lv_iconst hx hb dX1_page_1 kc_0 ?_
  refine lv_aload_n hx hb dX1_page_2 rfl (lv_at hl 0 rfl) ?_
  obtain ⟨p_1, e_2, h⟩ := bO_e h
  refine vg_r S hK hV fX1_49 e_2 dX1_page_3 ?_
  obtain ⟨n_3, z_n_3, h9⟩ := bO_e h
  clear h; subst z_n_3; have h := h9; clear h9
  obtain ⟨p_4, e_5, h⟩ := bO_e h
  refine vg_r S hK hV fX1_281 e_5 dX1_page_6 ?_
  obtain ⟨n_6, z_n_6, h9⟩ := bO_e h
  clear h; subst z_n_6; have h := h9; clear h9
  obtain ⟨o_9, e_10, h⟩ := bO_e h
  refine vk_i (vr_V (As := []) (rest := [.int (0 : Int32), .int a1]) S hK hG hA hV hS e_10 rfl (mvJ2_size l n_6 V _ h) (cwV 0 S.2.2.2.2 (lw_V q972 q591 q592 q144 q593) rfl rfl rfl cdJ2_size ⟨Nat.le_of_ble_eq_true rfl, Nat.le_of_ble_eq_true rfl⟩) rfl hl.1 (Nat.le_of_ble_eq_true rfl) dX1_page_9 ⟨Nat.le_refl _, Nat.le_refl _⟩) hS (fun r_7 V_8 H locs h hV hS => ?_)
  refine lv_iconst hx hb dX1_page_12 kc_1 ?_
  refine lv_isub hx hb dX1_page_13 ?_
  refine sc_i S (As := [.int a1, .int (0 : Int32), .int (r_7 - (1 : Int32))]) (rest := []) (mt1_in l a1 (0 : Int32) (r_7 - (1 : Int32)) _ h) (va_cwS 3 S.2.2.2.2 (lw_S q367 q368 q139 q369) rfl rfl rfl cdX1_in ⟨Nat.le_of_ble_eq_true rfl, Nat.le_of_ble_eq_true rfl⟩) rfl rfl hl.1 (Nat.le_of_ble_eq_true rfl) dX1_page_14 ⟨Nat.le_refl _, Nat.le_refl _⟩ (fun r_11 h => ?_)
  refine lv_if_eq (tgt := 41) hx hb dX1_page_17 (by decide) (fun c_12 => ?_) (fun c_12 => ?_)
  · replace h := h.1 c_12
    refine lv_iconst hx hb dX1_page_41 kc_m1 ?_
    exact ve_i S hlocks hret hV hS h rfl (Nat.le_refl _) (Nat.le_refl _) dX1_page_42
  · replace h := h.2 c_12
    refine lv_aload_n hx hb dX1_page_20 rfl (lv_at hl 0 rfl) ?_
    refine lv_aload_n hx hb dX1_page_21 rfl (lv_at hl 0 rfl) ?_
    obtain ⟨p_13, e_14, h⟩ := bO_e h
    refine vg_r S hK hV fX1_49 e_14 dX1_page_22 ?_
    obtain ⟨n_15, z_n_15, h9⟩ := bO_e h
    clear h; subst z_n_15; have h := h9; clear h9
    obtain ⟨p_16, e_17, h⟩ := bO_e h
    refine vg_r S hK hV fX1_281 e_17 dX1_page_25 ?_
    refine lv_iload_n hx hb dX1_page_28 rfl (lv_at hl 1 rfl) ?_
    obtain ⟨n_18, z_n_18, h9⟩ := bO_e h
    clear h; subst z_n_18; have h := h9; clear h9
    obtain ⟨o_21, e_22, h⟩ := bO_e h
    refine vk_q (vr_V (As := [.int a1]) (rest := [.ref a0]) S hK hG hA hV hS e_22 rfl (mvJ2_get l n_18 a1 V_8 _ h) (cwV 1 S.2.2.2.2 (lw_V q973 q608 q609 q144 q610) rfl rfl rfl cdJ2_get ⟨Nat.le_of_ble_eq_true rfl, Nat.le_of_ble_eq_true rfl⟩) rfl hl.1 (Nat.le_of_ble_eq_true rfl) dX1_page_29 ⟨Nat.le_refl _, Nat.le_refl _⟩) hS (fun p_19 V_20 H locs h hV hS => ?_)
    obtain ⟨n_23, z_n_23, h9⟩ := bO_e h
    clear h; subst z_n_23; have h := h9; clear h9
    obtain ⟨o_24, e_25, h⟩ := bO_e h
    refine v_cast S hK hV e_25 ct_SaidSo_Page q1139 dX1_page_32 ?_
    obtain ⟨o_28, e_29, h⟩ := bO_e h
    refine vk_i (vr_V (As := [.ref n_23]) (rest := []) S hK hG hA hV hS e_29 rfl (mvX1_kindOf l a0 n_23 V_20 _ h) (cwV 1 S.2.2.2.2 (lw_V q1144 q1146 qs45 q139 q1147) rfl rfl rfl cdX1_kindOf ⟨Nat.le_of_ble_eq_true rfl, Nat.le_of_ble_eq_true rfl⟩) rfl hl.1 (Nat.le_of_ble_eq_true rfl) dX1_page_35 ⟨Nat.le_refl _, Nat.le_refl _⟩) hS (fun r_26 V_27 H locs h hV hS => ?_)
    refine lv_goto (tgt := 42) hx hb dX1_page_38 (by decide) ?_
    exact ve_i S hlocks hret hV hS h rfl (Nat.le_refl _) (Nat.le_refl _) dX1_page_42
def vX1_hasPage_c64 (cA : Nat → ClassId) (a0 : Nat) (a1 : Int32) (a2 : Int32) (a3 : Int32) (k3 : Int32 → VS → Prop) (Post : Int32 → VS → Prop) (x4 : Int32) (V : VS) : Prop := ∀ v_28 : Int32, v_28 = x4 + (1 : Int32) → k3 v_28 V
def vX1_hasPage_l3 (cA : Nat → ClassId) (a0 : Nat) (a1 : Int32) (a2 : Int32) (a3 : Int32) (Post : Int32 → VS → Prop) : Nat → Int32 → VS → Prop
  | 0, _, _ => False
  | n + 1, x4, V => bO (gR V [1] a0 11) (fun p_1 => bO p_1 (fun n_3 => bO (gR V [3] n_3 3) (fun p_4 => bO p_4 (fun n_6 => bO (vO V [14] n_6) (fun o_9 => vJ2_size cA n_6 V (fun r_7 V_8 => (r_7 ≤ x4 → (Post (0 : Int32) V_8)) ∧ (¬ (r_7 ≤ x4) → (bO (gR V_8 [1] a0 11) (fun p_12 => bO p_12 (fun n_14 => bO (gR V_8 [3] n_14 3) (fun p_15 => bO p_15 (fun n_17 => bO (vO V_8 [14] n_17) (fun o_20 => vJ2_get cA n_17 x4 V_8 (fun p_18 V_19 => bO p_18 (fun n_22 => bO (vO V_19 [9] n_22) (fun o_23 => bO (gI V_19 [9] n_22 0) (fun g_25 => (g_25 = a1 → (bO (gI V_19 [9] n_22 1) (fun g_29 => (g_29 = a2 → (bO (gI V_19 [9] n_22 2) (fun g_32 => (g_32 = a3 → (Post (1 : Int32) V_19)) ∧ (¬ (g_32 = a3) → (vX1_hasPage_c64 cA a0 a1 a2 a3 (vX1_hasPage_l3 cA a0 a1 a2 a3 Post n) Post x4 V_19))))) ∧ (¬ (g_29 = a2) → (vX1_hasPage_c64 cA a0 a1 a2 a3 (vX1_hasPage_l3 cA a0 a1 a2 a3 Post n) Post x4 V_19))))) ∧ (¬ (g_25 = a1) → (vX1_hasPage_c64 cA a0 a1 a2 a3 (vX1_hasPage_l3 cA a0 a1 a2 a3 Post n) Post x4 V_19)))))))))))))))))))
def vX1_hasPage (cA : Nat → ClassId) (a0 : Nat) (a1 : Int32) (a2 : Int32) (a3 : Int32) (V : VS) (Post : Int32 → VS → Prop) : Prop := ∃ f, vX1_hasPage_l3 cA a0 a1 a2 a3 Post f (0 : Int32) V
abbrev rX1_hasPage : Room := { frames := 3, cells := 0, slots := 0, locals := 64 }
theorem cdX1_hasPage : yX1_hasPage.cls = RX1 ∧ yX1_hasPage.cls ≠ "java/lang/invoke/MethodHandle" ∧ yX1_hasPage.cls ≠ "java/lang/invoke/VarHandle" ∧ (parseMethodDescriptor yX1_hasPage.desc).map (fun d => d.parameters.length) = some 3 := by decide +kernel
set_option maxHeartbeats 4000000 in
set_option maxRecDepth 100000 in
theorem mvX1_hasPage (l : Launch) {D : va_G} {cA : Nat → ClassId} {A : Nat → Prop} (a0 : Nat) (a1 : Int32) (a2 : Int32) (a3 : Int32) (V : VS) (Post : Int32 → VS → Prop) (h : vX1_hasPage cA a0 a1 a2 a3 V Post) : Met l yX1_hasPage (ws_ yX1_hasPage cX1_hasPage 6 (some (.boolean))) rX1_hasPage (vPc [.ref a0, .int a1, .int a2, .int a3] D cA A V) (va_Qi Post (vB D A) A) 0 0 A := by
  refine vstM (own := RX1) (by decide) rfl (Nat.le_of_ble_eq_true rfl) ?_
  intro p e s m args below meth c ls X hret hV hS hl
  obtain ⟨S, hK, hG, hA, hnm, hlocks⟩ := X
  have hx := S.1
  have hb := S.2.1
  have hl : lv_has ls 6 [(0, .ref a0), (1, .int a1), (2, .int a2), (3, .int a3)] := hl
  have C64 : ∀ (k3 : Int32 → VS → Prop) (K3 : (∀ (x4 : Int32) (V : VS) (H : Heap) (locs : List Loc) (ls : Array Slot), HV D A V H → va_S A s.heap H locs → lv_has ls 6 [(0, .ref a0), (1, .int a1), (2, .int a2), (3, .int a3), (4, .int x4)] → k3 x4 V → W p l e rX1_hasPage s m args below meth c H locs 0 0 (MQ below (va_Qi Post (vB D A) A) args s 0 0 A) (F0 m 3 ls []))), ∀ (x4 : Int32) (V : VS) (H : Heap) (locs : List Loc) (ls : Array Slot), HV D A V H → va_S A s.heap H locs → lv_has ls 6 [(0, .ref a0), (1, .int a1), (2, .int a2), (3, .int a3), (4, .int x4)] → vX1_hasPage_c64 cA a0 a1 a2 a3 k3 Post x4 V → W p l e rX1_hasPage s m args below meth c H locs 0 0 (MQ below (va_Qi Post (vB D A) A) args s 0 0 A) (F0 m 64 ls []) := by
    intro k3 K3
    intro x4 V H locs ls hV hS hl h
    unfold vX1_hasPage_c64 at h
    obtain ⟨v_28, e_v_28⟩ : ∃ y : Int32, y = x4 + (1 : Int32) := ⟨_, rfl⟩
    replace h := h v_28 e_v_28
    refine lv_iinc (v := v_28) (lv' := [(4, .int v_28), (0, .ref a0), (1, .int a1), (2, .int a2), (3, .int a3)]) hx hb dX1_hasPage_64 hl (k := 4) rfl (by rw [kc_1, e_v_28]) (by decide) rfl (fun ls hl => ?_)
    refine lv_goto (tgt := 3) hx hb dX1_hasPage_67 (by decide) ?_
    exact K3 _ _ _ _ _ hV hS (lv_sub hl [1, 2, 3, 4, 0] rfl) h
  have L3 : ∀ (n : Nat) (x4 : Int32) (V : VS) (H : Heap) (locs : List Loc) (ls : Array Slot), HV D A V H → va_S A s.heap H locs → lv_has ls 6 [(0, .ref a0), (1, .int a1), (2, .int a2), (3, .int a3), (4, .int x4)] → vX1_hasPage_l3 cA a0 a1 a2 a3 Post n x4 V → W p l e rX1_hasPage s m args below meth c H locs 0 0 (MQ below (va_Qi Post (vB D A) A) args s 0 0 A) (F0 m 3 ls []) := by
    intro n
    induction n with
    | zero => intro x4 V H locs ls hV hS hl h; rw [vX1_hasPage_l3] at h; exact h.elim
    | succ n ih =>
      intro x4 V H locs ls hV hS hl h
      rw [vX1_hasPage_l3] at h
      refine lv_iload hx hb dX1_hasPage_3 (lv_at hl 4 rfl) ?_
      refine lv_aload_n hx hb dX1_hasPage_5 rfl (lv_at hl 0 rfl) ?_
      obtain ⟨p_1, e_2, h⟩ := bO_e h
      refine vg_r S hK hV fX1_49 e_2 dX1_hasPage_6 ?_
      obtain ⟨n_3, z_n_3, h9⟩ := bO_e h
      clear h; subst z_n_3; have h := h9; clear h9
      obtain ⟨p_4, e_5, h⟩ := bO_e h
      refine vg_r S hK hV fX1_281 e_5 dX1_hasPage_9 ?_
      obtain ⟨n_6, z_n_6, h9⟩ := bO_e h
      clear h; subst z_n_6; have h := h9; clear h9
      obtain ⟨o_9, e_10, h⟩ := bO_e h
      refine vk_i (vr_V (As := []) (rest := [.int x4]) S hK hG hA hV hS e_10 rfl (mvJ2_size l n_6 V _ h) (cwV 0 S.2.2.2.2 (lw_V q972 q591 q592 q144 q593) rfl rfl rfl cdJ2_size ⟨Nat.le_of_ble_eq_true rfl, Nat.le_of_ble_eq_true rfl⟩) rfl hl.1 (Nat.le_of_ble_eq_true rfl) dX1_hasPage_12 ⟨Nat.le_refl _, Nat.le_refl _⟩) hS (fun r_7 V_8 H locs h hV hS => ?_)
      refine lv_icmp_ge (tgt := 70) hx hb dX1_hasPage_15 (by decide) (fun c_11 => ?_) (fun c_11 => ?_)
      · replace h := h.1 c_11
        refine lv_iconst hx hb dX1_hasPage_70 kc_0 ?_
        exact ve_i S hlocks hret hV hS h (vz_nar vz_0) (Nat.le_refl _) (Nat.le_refl _) dX1_hasPage_71
      · replace h := h.2 c_11
        refine lv_aload_n hx hb dX1_hasPage_18 rfl (lv_at hl 0 rfl) ?_
        obtain ⟨p_12, e_13, h⟩ := bO_e h
        refine vg_r S hK hV fX1_49 e_13 dX1_hasPage_19 ?_
        obtain ⟨n_14, z_n_14, h9⟩ := bO_e h
        clear h; subst z_n_14; have h := h9; clear h9
        obtain ⟨p_15, e_16, h⟩ := bO_e h
        refine vg_r S hK hV fX1_281 e_16 dX1_hasPage_22 ?_
        refine lv_iload hx hb dX1_hasPage_25 (lv_at hl 4 rfl) ?_
        obtain ⟨n_17, z_n_17, h9⟩ := bO_e h
        clear h; subst z_n_17; have h := h9; clear h9
        obtain ⟨o_20, e_21, h⟩ := bO_e h
        refine vk_q (vr_V (As := [.int x4]) (rest := []) S hK hG hA hV hS e_21 rfl (mvJ2_get l n_17 x4 V_8 _ h) (cwV 1 S.2.2.2.2 (lw_V q973 q608 q609 q144 q610) rfl rfl rfl cdJ2_get ⟨Nat.le_of_ble_eq_true rfl, Nat.le_of_ble_eq_true rfl⟩) rfl hl.1 (Nat.le_of_ble_eq_true rfl) dX1_hasPage_27 ⟨Nat.le_refl _, Nat.le_refl _⟩) hS (fun p_18 V_19 H locs h hV hS => ?_)
        obtain ⟨n_22, z_n_22, h9⟩ := bO_e h
        clear h; subst z_n_22; have h := h9; clear h9
        obtain ⟨o_23, e_24, h⟩ := bO_e h
        refine v_cast S hK hV e_24 ct_SaidSo_Page q1139 dX1_hasPage_30 ?_
        refine lv_astore (lv' := [(5, .ref n_22), (0, .ref a0), (1, .int a1), (2, .int a2), (3, .int a3), (4, .int x4)]) hx hb dX1_hasPage_33 hl (by decide) rfl (fun ls hl => ?_)
        refine lv_aload hx hb dX1_hasPage_35 (lv_at hl 0 rfl) ?_
        obtain ⟨g_25, e_26, h⟩ := bO_e h
        refine vg_i S hK hV fX1_286 e_26 dX1_hasPage_37 ?_
        refine lv_iload_n hx hb dX1_hasPage_40 rfl (lv_at hl 2 rfl) ?_
        refine lv_icmp_ne (tgt := 64) hx hb dX1_hasPage_41 (by decide) (fun c_27 => ?_) (fun c_27 => ?_)
        · replace h := h.2 c_27
          exact C64 _ ih _ _ _ _ _ hV hS (lv_sub hl [1, 2, 3, 4, 5] rfl) h
        · replace h := h.1 c_27
          refine lv_aload hx hb dX1_hasPage_44 (lv_at hl 0 rfl) ?_
          obtain ⟨g_29, e_30, h⟩ := bO_e h
          refine vg_i S hK hV fX1_287 e_30 dX1_hasPage_46 ?_
          refine lv_iload_n hx hb dX1_hasPage_49 rfl (lv_at hl 3 rfl) ?_
          refine lv_icmp_ne (tgt := 64) hx hb dX1_hasPage_50 (by decide) (fun c_31 => ?_) (fun c_31 => ?_)
          · replace h := h.2 c_31
            exact C64 _ ih _ _ _ _ _ hV hS (lv_sub hl [1, 2, 3, 4, 5] rfl) h
          · replace h := h.1 c_31
            refine lv_aload hx hb dX1_hasPage_53 (lv_at hl 0 rfl) ?_
            obtain ⟨g_32, e_33, h⟩ := bO_e h
            refine vg_i S hK hV fX1_300 e_33 dX1_hasPage_55 ?_
            refine lv_iload_n hx hb dX1_hasPage_58 rfl (lv_at hl 4 rfl) ?_
            refine lv_icmp_ne (tgt := 64) hx hb dX1_hasPage_59 (by decide) (fun c_34 => ?_) (fun c_34 => ?_)
            · replace h := h.2 c_34
              exact C64 _ ih _ _ _ _ _ hV hS (lv_sub hl [1, 2, 3, 4, 5] rfl) h
            · replace h := h.1 c_34
              refine lv_iconst hx hb dX1_hasPage_62 kc_1 ?_
              exact ve_i S hlocks hret hV hS h (vz_nar vz_1) (Nat.le_refl _) (Nat.le_refl _) dX1_hasPage_63
  unfold vX1_hasPage at h
  refine lv_iconst hx hb dX1_hasPage_0 kc_0 ?_
  refine lv_istore (lv' := [(4, .int (0 : Int32)), (0, .ref a0), (1, .int a1), (2, .int a2), (3, .int a3)]) hx hb dX1_hasPage_1 hl (by decide) rfl (fun ls hl => ?_)
  obtain ⟨f, h⟩ := h
  exact L3 f _ _ _ _ _ hV hS (lv_sub hl [1, 2, 3, 4, 0] rfl) h
def vX1_left_c74 (cA : Nat → ClassId) (a0 : Nat) (a1 : Int32) (k14 : Int32 → Int32 → VS → Prop) (Post : Int32 → VS → Prop) (x3 : Int32) (t0 : Int32) (t1 : Int32) (V : VS) : Prop := ∀ v_22 : Int32, v_22 = t1 + t0 → ∀ v_23 : Int32, v_23 = x3 + (1 : Int32) → k14 v_22 v_23 V
def vX1_left_c73 (cA : Nat → ClassId) (a0 : Nat) (a1 : Int32) (k14 : Int32 → Int32 → VS → Prop) (Post : Int32 → VS → Prop) (x3 : Int32) (t0 : Int32) (V : VS) : Prop := vX1_left_c74 cA a0 a1 k14 Post x3 (0 : Int32) t0 V
def vX1_left_l14 (cA : Nat → ClassId) (a0 : Nat) (a1 : Int32) (Post : Int32 → VS → Prop) : Nat → Int32 → Int32 → VS → Prop
  | 0, _, _, _ => False
  | n + 1, x2, x3, V => bO (gR V [1] a0 11) (fun p_6 => bO p_6 (fun n_8 => bO (gR V [3] n_8 2) (fun p_9 => bO p_9 (fun n_11 => bO (vO V [14] n_11) (fun o_14 => vJ2_size cA n_11 V (fun r_12 V_13 => (r_12 ≤ x3 → (Post x2 V_13)) ∧ (¬ (r_12 ≤ x3) → (bO (vO V_13 [1] a0) (fun o_19 => vX1_word_2 cA a0 x3 a1 (-1 : Int32) V_13 (fun p_17 V_18 => (p_17 = none → (vX1_left_c73 cA a0 a1 (vX1_left_l14 cA a0 a1 Post n) Post x3 x2 V_18)) ∧ (∀ n_21 : Nat, p_17 = some n_21 → (bO (vO V_18 [7] n_21) (fun o_26 => vX9_isRight cA n_21 V_18 (fun r_24 V_25 => (r_24 = 0 → (bO (gI V_25 [7] n_21 3) (fun g_29 => bO (gI V_25 [7] n_21 5) (fun g_31 => bO (vO V_25 [1] a0) (fun o_35 => vX1_hasPage cA a0 a1 g_29 g_31 V_25 (fun r_33 V_34 => (r_33 = 0 → (vX1_left_c74 cA a0 a1 (vX1_left_l14 cA a0 a1 Post n) Post x3 (1 : Int32) x2 V_34)) ∧ (¬ (r_33 = 0) → (vX1_left_c73 cA a0 a1 (vX1_left_l14 cA a0 a1 Post n) Post x3 x2 V_34)))))))) ∧ (¬ (r_24 = 0) → (vX1_left_c73 cA a0 a1 (vX1_left_l14 cA a0 a1 Post n) Post x3 x2 V_25))))))))))))))))
def vX1_left (cA : Nat → ClassId) (a0 : Nat) (a1 : Int32) (V : VS) (Post : Int32 → VS → Prop) : Prop := bO (vO V [1] a0) (fun o_3 => vX1_isTeller cA a0 a1 V (fun r_1 V_2 => (r_1 = 0 → (Post (-1 : Int32) V_2)) ∧ (¬ (r_1 = 0) → (∃ f, vX1_left_l14 cA a0 a1 Post f (0 : Int32) (0 : Int32) V_2))))
abbrev rX1_left : Room := { frames := 5, cells := 0, slots := 0, locals := 112 }
theorem cdX1_left : yX1_left.cls = RX1 ∧ yX1_left.cls ≠ "java/lang/invoke/MethodHandle" ∧ yX1_left.cls ≠ "java/lang/invoke/VarHandle" ∧ (parseMethodDescriptor yX1_left.desc).map (fun d => d.parameters.length) = some 1 := by decide +kernel
set_option maxHeartbeats 4000000 in
set_option maxRecDepth 100000 in
theorem mvX1_left (l : Launch) {D : va_G} {cA : Nat → ClassId} {A : Nat → Prop} (a0 : Nat) (a1 : Int32) (V : VS) (Post : Int32 → VS → Prop) (h : vX1_left cA a0 a1 V Post) : Met l yX1_left (ws_ yX1_left cX1_left 5 (some (.int))) rX1_left (vPc [.ref a0, .int a1] D cA A V) (va_Qi Post (vB D A) A) 0 0 A := by
  refine vstM (own := RX1) (by decide) rfl (Nat.le_of_ble_eq_true rfl) ?_
  intro p e s m args below meth c ls X hret hV hS hl
  obtain ⟨S, hK, hG, hA, hnm, hlocks⟩ := X
  have hx := S.1
  have hb := S.2.1
  have hl : lv_has ls 5 [(0, .ref a0), (1, .int a1)] := hl
  have C74 : ∀ (k14 : Int32 → Int32 → VS → Prop) (K14 : (∀ (x2 : Int32) (x3 : Int32) (V : VS) (H : Heap) (locs : List Loc) (ls : Array Slot), HV D A V H → va_S A s.heap H locs → lv_has ls 5 [(0, .ref a0), (1, .int a1), (2, .int x2), (3, .int x3)] → k14 x2 x3 V → W p l e rX1_left s m args below meth c H locs 0 0 (MQ below (va_Qi Post (vB D A) A) args s 0 0 A) (F0 m 14 ls []))), ∀ (x3 : Int32) (t0 : Int32) (t1 : Int32) (V : VS) (H : Heap) (locs : List Loc) (ls : Array Slot), HV D A V H → va_S A s.heap H locs → lv_has ls 5 [(0, .ref a0), (1, .int a1), (3, .int x3)] → vX1_left_c74 cA a0 a1 k14 Post x3 t0 t1 V → W p l e rX1_left s m args below meth c H locs 0 0 (MQ below (va_Qi Post (vB D A) A) args s 0 0 A) (F0 m 74 ls [.int t0, .int t1]) := by
    intro k14 K14
    intro x3 t0 t1 V H locs ls hV hS hl h
    unfold vX1_left_c74 at h
    refine lv_iadd hx hb dX1_left_74 ?_
    refine lv_topi (fun v_22 e_v_22 => ?_)
    replace h := h v_22 e_v_22
    refine lv_istore_n (lv' := [(2, .int v_22), (0, .ref a0), (1, .int a1), (3, .int x3)]) hx hb dX1_left_75 rfl hl (by decide) rfl (fun ls hl => ?_)
    obtain ⟨v_23, e_v_23⟩ : ∃ y : Int32, y = x3 + (1 : Int32) := ⟨_, rfl⟩
    replace h := h v_23 e_v_23
    refine lv_iinc (v := v_23) (lv' := [(3, .int v_23), (2, .int v_22), (0, .ref a0), (1, .int a1)]) hx hb dX1_left_76 hl (k := 3) rfl (by rw [kc_1, e_v_23]) (by decide) rfl (fun ls hl => ?_)
    refine lv_goto (tgt := 14) hx hb dX1_left_79 (by decide) ?_
    exact K14 _ _ _ _ _ _ hV hS (lv_sub hl [2, 3, 1, 0] rfl) h
  have C73 : ∀ (k14 : Int32 → Int32 → VS → Prop) (K14 : (∀ (x2 : Int32) (x3 : Int32) (V : VS) (H : Heap) (locs : List Loc) (ls : Array Slot), HV D A V H → va_S A s.heap H locs → lv_has ls 5 [(0, .ref a0), (1, .int a1), (2, .int x2), (3, .int x3)] → k14 x2 x3 V → W p l e rX1_left s m args below meth c H locs 0 0 (MQ below (va_Qi Post (vB D A) A) args s 0 0 A) (F0 m 14 ls []))), ∀ (x3 : Int32) (t0 : Int32) (V : VS) (H : Heap) (locs : List Loc) (ls : Array Slot), HV D A V H → va_S A s.heap H locs → lv_has ls 5 [(0, .ref a0), (1, .int a1), (3, .int x3)] → vX1_left_c73 cA a0 a1 k14 Post x3 t0 V → W p l e rX1_left s m args below meth c H locs 0 0 (MQ below (va_Qi Post (vB D A) A) args s 0 0 A) (F0 m 73 ls [.int t0]) := by
    intro k14 K14
    intro x3 t0 V H locs ls hV hS hl h
    unfold vX1_left_c73 at h
    refine lv_iconst hx hb dX1_left_73 kc_0 ?_
    exact C74 _ K14 _ _ _ _ _ _ _ hV hS (lv_sub hl [0, 1, 2] rfl) h
  have L14 : ∀ (n : Nat) (x2 : Int32) (x3 : Int32) (V : VS) (H : Heap) (locs : List Loc) (ls : Array Slot), HV D A V H → va_S A s.heap H locs → lv_has ls 5 [(0, .ref a0), (1, .int a1), (2, .int x2), (3, .int x3)] → vX1_left_l14 cA a0 a1 Post n x2 x3 V → W p l e rX1_left s m args below meth c H locs 0 0 (MQ below (va_Qi Post (vB D A) A) args s 0 0 A) (F0 m 14 ls []) := by
    intro n
    induction n with
    | zero => intro x2 x3 V H locs ls hV hS hl h; rw [vX1_left_l14] at h; exact h.elim
    | succ n ih =>
      intro x2 x3 V H locs ls hV hS hl h
      rw [vX1_left_l14] at h
      refine lv_iload_n hx hb dX1_left_14 rfl (lv_at hl 3 rfl) ?_
      refine lv_aload_n hx hb dX1_left_15 rfl (lv_at hl 0 rfl) ?_
      obtain ⟨p_6, e_7, h⟩ := bO_e h
      refine vg_r S hK hV fX1_49 e_7 dX1_left_16 ?_
      obtain ⟨n_8, z_n_8, h9⟩ := bO_e h
      clear h; subst z_n_8; have h := h9; clear h9
      obtain ⟨p_9, e_10, h⟩ := bO_e h
      refine vg_r S hK hV fX1_173 e_10 dX1_left_19 ?_
      obtain ⟨n_11, z_n_11, h9⟩ := bO_e h
      clear h; subst z_n_11; have h := h9; clear h9
      obtain ⟨o_14, e_15, h⟩ := bO_e h
      refine vk_i (vr_V (As := []) (rest := [.int x3]) S hK hG hA hV hS e_15 rfl (mvJ2_size l n_11 V _ h) (cwV 0 S.2.2.2.2 (lw_V q972 q591 q592 q144 q593) rfl rfl rfl cdJ2_size ⟨Nat.le_of_ble_eq_true rfl, Nat.le_of_ble_eq_true rfl⟩) rfl hl.1 (Nat.le_of_ble_eq_true rfl) dX1_left_22 ⟨Nat.le_refl _, Nat.le_refl _⟩) hS (fun r_12 V_13 H locs h hV hS => ?_)
      refine lv_icmp_ge (tgt := 82) hx hb dX1_left_25 (by decide) (fun c_16 => ?_) (fun c_16 => ?_)
      · replace h := h.1 c_16
        refine lv_iload_n hx hb dX1_left_82 rfl (lv_at hl 2 rfl) ?_
        exact ve_i S hlocks hret hV hS h rfl (Nat.le_refl _) (Nat.le_refl _) dX1_left_83
      · replace h := h.2 c_16
        refine lv_aload_n hx hb dX1_left_28 rfl (lv_at hl 0 rfl) ?_
        refine lv_iload_n hx hb dX1_left_29 rfl (lv_at hl 3 rfl) ?_
        refine lv_iload_n hx hb dX1_left_30 rfl (lv_at hl 1 rfl) ?_
        refine lv_iconst hx hb dX1_left_31 kc_m1 ?_
        obtain ⟨o_19, e_20, h⟩ := bO_e h
        refine vk_q (vr_V (As := [.int x3, .int a1, .int (-1 : Int32)]) (rest := []) S hK hG hA hV hS e_20 rfl (mvX1_word_2 l a0 x3 a1 (-1 : Int32) V_13 _ h) (cwV 3 S.2.2.2.2 (lw_V q1048 q1050 qs38 q139 q1051) rfl rfl rfl cdX1_word_2 ⟨Nat.le_of_ble_eq_true rfl, Nat.le_of_ble_eq_true rfl⟩) rfl hl.1 (Nat.le_of_ble_eq_true rfl) dX1_left_32 ⟨Nat.le_refl _, Nat.le_refl _⟩) hS (fun p_17 V_18 H locs h hV hS => ?_)
        refine lv_astoreQ (r := p_17) (lv' := [(4, va_rf p_17), (0, .ref a0), (1, .int a1), (2, .int x2), (3, .int x3)]) hx hb dX1_left_35 hl (by decide) rfl (fun ls hl => ?_)
        refine lv_iload_n hx hb dX1_left_37 rfl (lv_at hl 3 rfl) ?_
        refine lv_aloadQ hx hb dX1_left_38 (lv_at hl 0 rfl) ?_
        rcases p_17 with _ | n_21
        · replace h := h.1 rfl
          refine lv_ifnullN (tgt := 73) hx hb dX1_left_40 (by decide) ?_
          exact C73 _ ih _ _ _ _ _ _ hV hS (lv_sub hl [1, 2, 4] rfl) h
        · replace h := h.2 n_21 rfl
          refine lv_ifnull hx hb dX1_left_40 ?_
          refine lv_aload hx hb dX1_left_43 (lv_at hl 0 rfl) ?_
          obtain ⟨o_26, e_27, h⟩ := bO_e h
          refine vk_i (vr_V (As := []) (rest := [.int x2]) S hK hG hA hV hS e_27 rfl (mvX9_isRight l n_21 V_18 _ h) (cwV 0 S.2.2.2.2 (lw_V q1040 q1041 q1042 q162 q1043) rfl rfl rfl cdX9_isRight ⟨Nat.le_of_ble_eq_true rfl, Nat.le_of_ble_eq_true rfl⟩) rfl hl.1 (Nat.le_of_ble_eq_true rfl) dX1_left_45 ⟨Nat.le_refl _, Nat.le_refl _⟩) hS (fun r_24 V_25 H locs h hV hS => ?_)
          refine lv_if_ne (tgt := 73) hx hb dX1_left_48 (by decide) (fun c_28 => ?_) (fun c_28 => ?_)
          · replace h := h.2 c_28
            exact C73 _ ih _ _ _ _ _ _ hV hS (lv_sub hl [1, 2, 4] rfl) h
          · replace h := h.1 c_28
            refine lv_aload_n hx hb dX1_left_51 rfl (lv_at hl 1 rfl) ?_
            refine lv_iload_n hx hb dX1_left_52 rfl (lv_at hl 2 rfl) ?_
            refine lv_aload hx hb dX1_left_53 (lv_at hl 0 rfl) ?_
            obtain ⟨g_29, e_30, h⟩ := bO_e h
            refine vg_i S hK hV fX1_313 e_30 dX1_left_55 ?_
            refine lv_aload hx hb dX1_left_58 (lv_at hl 0 rfl) ?_
            obtain ⟨g_31, e_32, h⟩ := bO_e h
            refine vg_i S hK hV fX1_304 e_32 dX1_left_60 ?_
            obtain ⟨o_35, e_36, h⟩ := bO_e h
            refine vk_i (vr_V (As := [.int a1, .int g_29, .int g_31]) (rest := [.int x2]) S hK hG hA hV hS e_36 rfl (mvX1_hasPage l a0 a1 g_29 g_31 V_25 _ h) (cwV 3 S.2.2.2.2 (lw_V q1160 q1162 qs48 q139 q1163) rfl rfl rfl cdX1_hasPage ⟨Nat.le_of_ble_eq_true rfl, Nat.le_of_ble_eq_true rfl⟩) rfl hl.1 (Nat.le_of_ble_eq_true rfl) dX1_left_63 ⟨Nat.le_refl _, Nat.le_refl _⟩) hS (fun r_33 V_34 H locs h hV hS => ?_)
            refine lv_if_ne (tgt := 73) hx hb dX1_left_66 (by decide) (fun c_37 => ?_) (fun c_37 => ?_)
            · replace h := h.2 c_37
              exact C73 _ ih _ _ _ _ _ _ hV hS (lv_sub hl [1, 2, 4] rfl) h
            · replace h := h.1 c_37
              refine lv_iconst hx hb dX1_left_69 kc_1 ?_
              refine lv_goto (tgt := 74) hx hb dX1_left_70 (by decide) ?_
              exact C74 _ ih _ _ _ _ _ _ _ hV hS (lv_sub hl [1, 2, 4] rfl) h
  unfold vX1_left at h
  refine lv_aload_n hx hb dX1_left_0 rfl (lv_at hl 0 rfl) ?_
  refine lv_iload_n hx hb dX1_left_1 rfl (lv_at hl 1 rfl) ?_
  obtain ⟨o_3, e_4, h⟩ := bO_e h
  refine vk_i (vr_V (As := [.int a1]) (rest := []) S hK hG hA hV hS e_4 rfl (mvX1_isTeller l a0 a1 V _ h) (cwV 1 S.2.2.2.2 (lw_V q968 q970 qs31 q139 q971) rfl rfl rfl cdX1_isTeller ⟨Nat.le_of_ble_eq_true rfl, Nat.le_of_ble_eq_true rfl⟩) rfl hl.1 (Nat.le_of_ble_eq_true rfl) dX1_left_2 ⟨Nat.le_refl _, Nat.le_refl _⟩) hS (fun r_1 V_2 H locs h hV hS => ?_)
  refine lv_if_ne (tgt := 10) hx hb dX1_left_5 (by decide) (fun c_5 => ?_) (fun c_5 => ?_)
  · replace h := h.2 c_5
    refine lv_iconst hx hb dX1_left_10 kc_0 ?_
    refine lv_istore_n (lv' := [(2, .int (0 : Int32)), (0, .ref a0), (1, .int a1)]) hx hb dX1_left_11 rfl hl (by decide) rfl (fun ls hl => ?_)
    refine lv_iconst hx hb dX1_left_12 kc_0 ?_
    refine lv_istore_n (lv' := [(3, .int (0 : Int32)), (2, .int (0 : Int32)), (0, .ref a0), (1, .int a1)]) hx hb dX1_left_13 rfl hl (by decide) rfl (fun ls hl => ?_)
    obtain ⟨f, h⟩ := h
    exact L14 f _ _ _ _ _ _ hV hS (lv_sub hl [2, 3, 1, 0] rfl) h
  · replace h := h.1 c_5
    refine lv_iconst hx hb dX1_left_8 kc_m1 ?_
    exact ve_i S hlocks hret hV hS h rfl (Nat.le_refl _) (Nat.le_refl _) dX1_left_9
def vX1_moved_c168 (cA : Nat → ClassId) (a0 : Nat) (a1 : Int32) (k17 : Int32 → Int32 → Int32 → VS → Prop) (Post : Int32 → VS → Prop) (x2 : Int32) (x3 : Int32) (x4 : Int32) (V : VS) : Prop := ∀ v_33 : Int32, v_33 = x4 + (1 : Int32) → k17 x2 x3 v_33 V
def vX1_moved_c148 (cA : Nat → ClassId) (a0 : Nat) (a1 : Int32) (k17 : Int32 → Int32 → Int32 → VS → Prop) (k102 : Int32 → Int32 → Int32 → Int32 → VS → Prop) (Post : Int32 → VS → Prop) (x2 : Int32) (x3 : Int32) (x4 : Int32) (x6 : Int32) (V : VS) : Prop := ∀ v_76 : Int32, v_76 = x6 + (1 : Int32) → k102 x2 x3 x4 v_76 V
def vX1_moved_l102 (cA : Nat → ClassId) (a0 : Nat) (a1 : Int32) (k17 : Int32 → Int32 → Int32 → VS → Prop) (Post : Int32 → VS → Prop) : Nat → Int32 → Int32 → Int32 → Int32 → VS → Prop
  | 0, _, _, _, _, _ => False
  | n + 1, x2, x3, x4, x6, V => (x2 ≤ x6 → (bO (gR V [1] a0 15) (fun p_58 => bO p_58 (fun n_60 => bO (lI V (cA 0) n_60 x2) (fun g_61 => ∀ v_63 : Int32, v_63 = (if x3 < g_61 then g_61 else x3) → ∀ v_64 : Int32, v_64 = x2 + (1 : Int32) → vX1_moved_c168 cA a0 a1 k17 Post v_64 v_63 x4 V))))) ∧ (¬ (x2 ≤ x6) → (bO (gR V [1] a0 16) (fun p_65 => bO p_65 (fun n_67 => bO (lI V (cA 0) n_67 x6) (fun g_68 => bO (gR V [1] a0 16) (fun p_70 => bO p_70 (fun n_72 => bO (lI V (cA 0) n_72 x2) (fun g_73 => (g_73 < g_68 → (vX1_moved_c148 cA a0 a1 k17 (vX1_moved_l102 cA a0 a1 k17 Post n) Post x2 x3 x4 x6 V)) ∧ (¬ (g_73 < g_68) → (bO (gR V [1] a0 15) (fun p_77 => bO (gR V [1] a0 15) (fun p_79 => bO p_79 (fun n_81 => bO (lI V (cA 0) n_81 x2) (fun g_82 => bO (gR V [1] a0 15) (fun p_84 => bO p_84 (fun n_86 => bO (lI V (cA 0) n_86 x6) (fun g_87 => ∀ v_89 : Int32, v_89 = (if g_82 < (g_87 + (1 : Int32)) then (g_87 + (1 : Int32)) else g_82) → bO p_77 (fun n_90 => bO (tI V (cA 0) n_90 x2 v_89) (fun V_91 => vX1_moved_c148 cA a0 a1 k17 (vX1_moved_l102 cA a0 a1 k17 Post n) Post x2 x3 x4 x6 V_91)))))))))))))))))))
def vX1_moved_l17 (cA : Nat → ClassId) (a0 : Nat) (a1 : Int32) (Post : Int32 → VS → Prop) : Nat → Int32 → Int32 → Int32 → VS → Prop
  | 0, _, _, _, _ => False
  | n + 1, x2, x3, x4, V => bO (gR V [1] a0 11) (fun p_6 => bO p_6 (fun n_8 => bO (gR V [3] n_8 3) (fun p_9 => bO p_9 (fun n_11 => bO (vO V [14] n_11) (fun o_14 => vJ2_size cA n_11 V (fun r_12 V_13 => (r_12 ≤ x4 → (Post (x2 - x3) V_13)) ∧ (¬ (r_12 ≤ x4) → (bO (gR V_13 [1] a0 11) (fun p_17 => bO p_17 (fun n_19 => bO (gR V_13 [3] n_19 3) (fun p_20 => bO p_20 (fun n_22 => bO (vO V_13 [14] n_22) (fun o_25 => vJ2_get cA n_22 x4 V_13 (fun p_23 V_24 => bO p_23 (fun n_27 => bO (vO V_24 [9] n_27) (fun o_28 => bO (gI V_24 [9] n_27 0) (fun g_30 => (g_30 = a1 → (bO (vO V_24 [1] a0) (fun o_36 => vX1_kindOf cA a0 n_27 V_24 (fun r_34 V_35 => (r_34 ≤ (1 : Int32) → (bO (gR V_35 [1] a0 16) (fun p_39 => bO (gI V_35 [9] n_27 1) (fun g_41 => bO (gI V_35 [9] n_27 2) (fun g_43 => bO (vO V_35 [1] a0) (fun o_47 => vX1_said cA a0 a1 g_41 g_43 V_35 (fun r_45 V_46 => bO p_39 (fun n_49 => bO (tI V_46 (cA 0) n_49 x2 r_45) (fun V_50 => bO (gR V_50 [1] a0 15) (fun p_52 => bO p_52 (fun n_54 => bO (tI V_50 (cA 0) n_54 x2 (1 : Int32)) (fun V_55 => ∃ f, vX1_moved_l102 cA a0 a1 (vX1_moved_l17 cA a0 a1 Post n) Post f x2 x3 x4 (0 : Int32) V_55)))))))))))) ∧ (¬ (r_34 ≤ (1 : Int32)) → (vX1_moved_c168 cA a0 a1 (vX1_moved_l17 cA a0 a1 Post n) Post x2 x3 x4 V_35)))))) ∧ (¬ (g_30 = a1) → (vX1_moved_c168 cA a0 a1 (vX1_moved_l17 cA a0 a1 Post n) Post x2 x3 x4 V_24)))))))))))))))))))
def vX1_moved (cA : Nat → ClassId) (a0 : Nat) (a1 : Int32) (V : VS) (Post : Int32 → VS → Prop) : Prop := bO (vO V [1] a0) (fun o_3 => vX1_isTeller cA a0 a1 V (fun r_1 V_2 => (r_1 = 0 → (Post (-1 : Int32) V_2)) ∧ (¬ (r_1 = 0) → (∃ f, vX1_moved_l17 cA a0 a1 Post f (0 : Int32) (0 : Int32) (0 : Int32) V_2))))
abbrev rX1_moved : Room := { frames := 7, cells := 0, slots := 0, locals := 158 }
theorem cdX1_moved : yX1_moved.cls = RX1 ∧ yX1_moved.cls ≠ "java/lang/invoke/MethodHandle" ∧ yX1_moved.cls ≠ "java/lang/invoke/VarHandle" ∧ (parseMethodDescriptor yX1_moved.desc).map (fun d => d.parameters.length) = some 1 := by decide +kernel
set_option maxHeartbeats 4000000 in
set_option maxRecDepth 100000 in
theorem mvX1_moved (l : Launch) {D : va_G} {cA : Nat → ClassId} {A : Nat → Prop} (a0 : Nat) (a1 : Int32) (V : VS) (Post : Int32 → VS → Prop) (h : vX1_moved cA a0 a1 V Post) : Met l yX1_moved (ws_ yX1_moved cX1_moved 7 (some (.int))) rX1_moved (vPc [.ref a0, .int a1] D cA A V) (va_Qi Post (vB D A) A) 0 0 A := by
  refine vstM (own := RX1) (by decide) rfl (Nat.le_of_ble_eq_true rfl) ?_
  intro p e s m args below meth c ls X hret hV hS hl
  obtain ⟨S, hK, hG, hA, hnm, hlocks⟩ := X
  have hx := S.1
  have hb := S.2.1
  have hl : lv_has ls 7 [(0, .ref a0), (1, .int a1)] := hl
  have C168 : ∀ (k17 : Int32 → Int32 → Int32 → VS → Prop) (K17 : (∀ (x2 : Int32) (x3 : Int32) (x4 : Int32) (V : VS) (H : Heap) (locs : List Loc) (ls : Array Slot), HV D A V H → va_S A s.heap H locs → lv_has ls 7 [(0, .ref a0), (1, .int a1), (2, .int x2), (3, .int x3), (4, .int x4)] → k17 x2 x3 x4 V → W p l e rX1_moved s m args below meth c H locs 0 0 (MQ below (va_Qi Post (vB D A) A) args s 0 0 A) (F0 m 17 ls []))), ∀ (x2 : Int32) (x3 : Int32) (x4 : Int32) (V : VS) (H : Heap) (locs : List Loc) (ls : Array Slot), HV D A V H → va_S A s.heap H locs → lv_has ls 7 [(0, .ref a0), (1, .int a1), (2, .int x2), (3, .int x3), (4, .int x4)] → vX1_moved_c168 cA a0 a1 k17 Post x2 x3 x4 V → W p l e rX1_moved s m args below meth c H locs 0 0 (MQ below (va_Qi Post (vB D A) A) args s 0 0 A) (F0 m 168 ls []) := by
    intro k17 K17
    intro x2 x3 x4 V H locs ls hV hS hl h
    unfold vX1_moved_c168 at h
    obtain ⟨v_33, e_v_33⟩ : ∃ y : Int32, y = x4 + (1 : Int32) := ⟨_, rfl⟩
    replace h := h v_33 e_v_33
    refine lv_iinc (v := v_33) (lv' := [(4, .int v_33), (0, .ref a0), (1, .int a1), (2, .int x2), (3, .int x3)]) hx hb dX1_moved_168 hl (k := 4) rfl (by rw [kc_1, e_v_33]) (by decide) rfl (fun ls hl => ?_)
    refine lv_goto (tgt := 17) hx hb dX1_moved_171 (by decide) ?_
    exact K17 _ _ _ _ _ _ _ hV hS (lv_sub hl [1, 2, 3, 4, 0] rfl) h
  have C148 : ∀ (k17 : Int32 → Int32 → Int32 → VS → Prop) (K17 : (∀ (x2 : Int32) (x3 : Int32) (x4 : Int32) (V : VS) (H : Heap) (locs : List Loc) (ls : Array Slot), HV D A V H → va_S A s.heap H locs → lv_has ls 7 [(0, .ref a0), (1, .int a1), (2, .int x2), (3, .int x3), (4, .int x4)] → k17 x2 x3 x4 V → W p l e rX1_moved s m args below meth c H locs 0 0 (MQ below (va_Qi Post (vB D A) A) args s 0 0 A) (F0 m 17 ls []))) (k102 : Int32 → Int32 → Int32 → Int32 → VS → Prop) (K102 : (∀ (x2 : Int32) (x3 : Int32) (x4 : Int32) (x6 : Int32) (V : VS) (H : Heap) (locs : List Loc) (ls : Array Slot), HV D A V H → va_S A s.heap H locs → lv_has ls 7 [(0, .ref a0), (1, .int a1), (2, .int x2), (3, .int x3), (4, .int x4), (6, .int x6)] → k102 x2 x3 x4 x6 V → W p l e rX1_moved s m args below meth c H locs 0 0 (MQ below (va_Qi Post (vB D A) A) args s 0 0 A) (F0 m 102 ls []))), ∀ (x2 : Int32) (x3 : Int32) (x4 : Int32) (x6 : Int32) (V : VS) (H : Heap) (locs : List Loc) (ls : Array Slot), HV D A V H → va_S A s.heap H locs → lv_has ls 7 [(0, .ref a0), (1, .int a1), (2, .int x2), (3, .int x3), (4, .int x4), (6, .int x6)] → vX1_moved_c148 cA a0 a1 k17 k102 Post x2 x3 x4 x6 V → W p l e rX1_moved s m args below meth c H locs 0 0 (MQ below (va_Qi Post (vB D A) A) args s 0 0 A) (F0 m 148 ls []) := by
    intro k17 K17 k102 K102
    intro x2 x3 x4 x6 V H locs ls hV hS hl h
    unfold vX1_moved_c148 at h
    obtain ⟨v_76, e_v_76⟩ : ∃ y : Int32, y = x6 + (1 : Int32) := ⟨_, rfl⟩
    replace h := h v_76 e_v_76
    refine lv_iinc (v := v_76) (lv' := [(6, .int v_76), (0, .ref a0), (1, .int a1), (2, .int x2), (3, .int x3), (4, .int x4)]) hx hb dX1_moved_148 hl (k := 5) rfl (by rw [kc_1, e_v_76]) (by decide) rfl (fun ls hl => ?_)
    refine lv_goto (tgt := 102) hx hb dX1_moved_151 (by decide) ?_
    exact K102 _ _ _ _ _ _ _ _ hV hS (lv_sub hl [1, 2, 3, 4, 5, 0] rfl) h
  have L102 : ∀ (k17 : Int32 → Int32 → Int32 → VS → Prop) (K17 : (∀ (x2 : Int32) (x3 : Int32) (x4 : Int32) (V : VS) (H : Heap) (locs : List Loc) (ls : Array Slot), HV D A V H → va_S A s.heap H locs → lv_has ls 7 [(0, .ref a0), (1, .int a1), (2, .int x2), (3, .int x3), (4, .int x4)] → k17 x2 x3 x4 V → W p l e rX1_moved s m args below meth c H locs 0 0 (MQ below (va_Qi Post (vB D A) A) args s 0 0 A) (F0 m 17 ls []))), ∀ (n : Nat) (x2 : Int32) (x3 : Int32) (x4 : Int32) (x6 : Int32) (V : VS) (H : Heap) (locs : List Loc) (ls : Array Slot), HV D A V H → va_S A s.heap H locs → lv_has ls 7 [(0, .ref a0), (1, .int a1), (2, .int x2), (3, .int x3), (4, .int x4), (6, .int x6)] → vX1_moved_l102 cA a0 a1 k17 Post n x2 x3 x4 x6 V → W p l e rX1_moved s m args below meth c H locs 0 0 (MQ below (va_Qi Post (vB D A) A) args s 0 0 A) (F0 m 102 ls []) := by
    intro k17 K17
    intro n
    induction n with
    | zero => intro x2 x3 x4 x6 V H locs ls hV hS hl h; rw [vX1_moved_l102] at h; exact h.elim
    | succ n ih =>
      intro x2 x3 x4 x6 V H locs ls hV hS hl h
      rw [vX1_moved_l102] at h
      refine lv_iload hx hb dX1_moved_102 (lv_at hl 5 rfl) ?_
      refine lv_iload_n hx hb dX1_moved_104 rfl (lv_at hl 2 rfl) ?_
      refine lv_icmp_ge (tgt := 154) hx hb dX1_moved_105 (by decide) (fun c_57 => ?_) (fun c_57 => ?_)
      · replace h := h.1 c_57
        refine lv_iload_n hx hb dX1_moved_154 rfl (lv_at hl 3 rfl) ?_
        refine lv_aload_n hx hb dX1_moved_155 rfl (lv_at hl 0 rfl) ?_
        obtain ⟨p_58, e_59, h⟩ := bO_e h
        refine vg_r S hK hV fX1_57 e_59 dX1_moved_156 ?_
        refine lv_iload_n hx hb dX1_moved_159 rfl (lv_at hl 2 rfl) ?_
        obtain ⟨n_60, z_n_60, h9⟩ := bO_e h
        clear h; subst z_n_60; have h := h9; clear h9
        obtain ⟨g_61, e_62, h⟩ := bO_e h
        refine vl_i S hK hV e_62 dX1_moved_160 ?_
        refine va_mmax hx hb (S.2.2.1.trans hl.1.symm) S.2.2.2.1 (S.2.2.2.2 _ q1168) (S.2.2.2.2 _ q464) (S.2.2.2.2 _ q150) (S.2.2.2.2 _ q465) (Nat.le_of_ble_eq_true rfl) (Nat.le_of_ble_eq_true rfl) (Nat.le_refl _) (Nat.le_refl _) dX1_moved_161 ?_
        refine lv_topi (fun v_63 e_v_63 => ?_)
        replace h := h v_63 e_v_63
        refine lv_istore_n (lv' := [(3, .int v_63), (0, .ref a0), (1, .int a1), (2, .int x2), (4, .int x4), (6, .int x6)]) hx hb dX1_moved_164 rfl hl (by decide) rfl (fun ls hl => ?_)
        obtain ⟨v_64, e_v_64⟩ : ∃ y : Int32, y = x2 + (1 : Int32) := ⟨_, rfl⟩
        replace h := h v_64 e_v_64
        refine lv_iinc (v := v_64) (lv' := [(2, .int v_64), (3, .int v_63), (0, .ref a0), (1, .int a1), (4, .int x4), (6, .int x6)]) hx hb dX1_moved_165 hl (k := 3) rfl (by rw [kc_1, e_v_64]) (by decide) rfl (fun ls hl => ?_)
        exact C168 _ K17 _ _ _ _ _ _ _ hV hS (lv_sub hl [2, 3, 0, 1, 4] rfl) h
      · replace h := h.2 c_57
        refine lv_aload_n hx hb dX1_moved_108 rfl (lv_at hl 0 rfl) ?_
        obtain ⟨p_65, e_66, h⟩ := bO_e h
        refine vg_r S hK hV fX1_61 e_66 dX1_moved_109 ?_
        refine lv_iload hx hb dX1_moved_112 (lv_at hl 5 rfl) ?_
        obtain ⟨n_67, z_n_67, h9⟩ := bO_e h
        clear h; subst z_n_67; have h := h9; clear h9
        obtain ⟨g_68, e_69, h⟩ := bO_e h
        refine vl_i S hK hV e_69 dX1_moved_114 ?_
        refine lv_aload_n hx hb dX1_moved_115 rfl (lv_at hl 0 rfl) ?_
        obtain ⟨p_70, e_71, h⟩ := bO_e h
        refine vg_r S hK hV fX1_61 e_71 dX1_moved_116 ?_
        refine lv_iload_n hx hb dX1_moved_119 rfl (lv_at hl 2 rfl) ?_
        obtain ⟨n_72, z_n_72, h9⟩ := bO_e h
        clear h; subst z_n_72; have h := h9; clear h9
        obtain ⟨g_73, e_74, h⟩ := bO_e h
        refine vl_i S hK hV e_74 dX1_moved_120 ?_
        refine lv_icmp_gt (tgt := 148) hx hb dX1_moved_121 (by decide) (fun c_75 => ?_) (fun c_75 => ?_)
        · replace h := h.1 c_75
          exact C148 _ K17 _ ih _ _ _ _ _ _ _ _ hV hS (lv_sub hl [0, 1, 2, 3, 4, 5] rfl) h
        · replace h := h.2 c_75
          refine lv_aload_n hx hb dX1_moved_124 rfl (lv_at hl 0 rfl) ?_
          obtain ⟨p_77, e_78, h⟩ := bO_e h
          refine vg_r S hK hV fX1_57 e_78 dX1_moved_125 ?_
          refine lv_iload_n hx hb dX1_moved_128 rfl (lv_at hl 2 rfl) ?_
          refine lv_aload_n hx hb dX1_moved_129 rfl (lv_at hl 0 rfl) ?_
          obtain ⟨p_79, e_80, h⟩ := bO_e h
          refine vg_r S hK hV fX1_57 e_80 dX1_moved_130 ?_
          refine lv_iload_n hx hb dX1_moved_133 rfl (lv_at hl 2 rfl) ?_
          obtain ⟨n_81, z_n_81, h9⟩ := bO_e h
          clear h; subst z_n_81; have h := h9; clear h9
          obtain ⟨g_82, e_83, h⟩ := bO_e h
          refine vl_i S hK hV e_83 dX1_moved_134 ?_
          refine lv_aload_n hx hb dX1_moved_135 rfl (lv_at hl 0 rfl) ?_
          obtain ⟨p_84, e_85, h⟩ := bO_e h
          refine vg_r S hK hV fX1_57 e_85 dX1_moved_136 ?_
          refine lv_iload hx hb dX1_moved_139 (lv_at hl 5 rfl) ?_
          obtain ⟨n_86, z_n_86, h9⟩ := bO_e h
          clear h; subst z_n_86; have h := h9; clear h9
          obtain ⟨g_87, e_88, h⟩ := bO_e h
          refine vl_i S hK hV e_88 dX1_moved_141 ?_
          refine lv_iconst hx hb dX1_moved_142 kc_1 ?_
          refine lv_iadd hx hb dX1_moved_143 ?_
          refine va_mmax hx hb (S.2.2.1.trans hl.1.symm) S.2.2.2.1 (S.2.2.2.2 _ q1168) (S.2.2.2.2 _ q464) (S.2.2.2.2 _ q150) (S.2.2.2.2 _ q465) (Nat.le_of_ble_eq_true rfl) (by cases p_77 <;> exact Nat.le_of_ble_eq_true rfl) (Nat.le_refl _) (Nat.le_refl _) dX1_moved_144 ?_
          refine lv_topi (fun v_89 e_v_89 => ?_)
          replace h := h v_89 e_v_89
          obtain ⟨n_90, z_n_90, h9⟩ := bO_e h
          clear h; subst z_n_90; have h := h9; clear h9
          obtain ⟨V_91, e_92, h⟩ := bO_e h
          refine vs_i S hK hV hS e_92 dX1_moved_147 (fun H locs hV hS => ?_)
          exact C148 _ K17 _ ih _ _ _ _ _ _ _ _ hV hS (lv_sub hl [0, 1, 2, 3, 4, 5] rfl) h
  have L17 : ∀ (n : Nat) (x2 : Int32) (x3 : Int32) (x4 : Int32) (V : VS) (H : Heap) (locs : List Loc) (ls : Array Slot), HV D A V H → va_S A s.heap H locs → lv_has ls 7 [(0, .ref a0), (1, .int a1), (2, .int x2), (3, .int x3), (4, .int x4)] → vX1_moved_l17 cA a0 a1 Post n x2 x3 x4 V → W p l e rX1_moved s m args below meth c H locs 0 0 (MQ below (va_Qi Post (vB D A) A) args s 0 0 A) (F0 m 17 ls []) := by
    intro n
    induction n with
    | zero => intro x2 x3 x4 V H locs ls hV hS hl h; rw [vX1_moved_l17] at h; exact h.elim
    | succ n ih =>
      intro x2 x3 x4 V H locs ls hV hS hl h
      rw [vX1_moved_l17] at h
      refine lv_iload hx hb dX1_moved_17 (lv_at hl 4 rfl) ?_
      refine lv_aload_n hx hb dX1_moved_19 rfl (lv_at hl 0 rfl) ?_
      obtain ⟨p_6, e_7, h⟩ := bO_e h
      refine vg_r S hK hV fX1_49 e_7 dX1_moved_20 ?_
      obtain ⟨n_8, z_n_8, h9⟩ := bO_e h
      clear h; subst z_n_8; have h := h9; clear h9
      obtain ⟨p_9, e_10, h⟩ := bO_e h
      refine vg_r S hK hV fX1_281 e_10 dX1_moved_23 ?_
      obtain ⟨n_11, z_n_11, h9⟩ := bO_e h
      clear h; subst z_n_11; have h := h9; clear h9
      obtain ⟨o_14, e_15, h⟩ := bO_e h
      refine vk_i (vr_V (As := []) (rest := [.int x4]) S hK hG hA hV hS e_15 rfl (mvJ2_size l n_11 V _ h) (cwV 0 S.2.2.2.2 (lw_V q972 q591 q592 q144 q593) rfl rfl rfl cdJ2_size ⟨Nat.le_of_ble_eq_true rfl, Nat.le_of_ble_eq_true rfl⟩) rfl hl.1 (Nat.le_of_ble_eq_true rfl) dX1_moved_26 ⟨Nat.le_refl _, Nat.le_refl _⟩) hS (fun r_12 V_13 H locs h hV hS => ?_)
      refine lv_icmp_ge (tgt := 174) hx hb dX1_moved_29 (by decide) (fun c_16 => ?_) (fun c_16 => ?_)
      · replace h := h.1 c_16
        refine lv_iload_n hx hb dX1_moved_174 rfl (lv_at hl 2 rfl) ?_
        refine lv_iload_n hx hb dX1_moved_175 rfl (lv_at hl 3 rfl) ?_
        refine lv_isub hx hb dX1_moved_176 ?_
        exact ve_i S hlocks hret hV hS h rfl (Nat.le_refl _) (Nat.le_refl _) dX1_moved_177
      · replace h := h.2 c_16
        refine lv_aload_n hx hb dX1_moved_32 rfl (lv_at hl 0 rfl) ?_
        obtain ⟨p_17, e_18, h⟩ := bO_e h
        refine vg_r S hK hV fX1_49 e_18 dX1_moved_33 ?_
        obtain ⟨n_19, z_n_19, h9⟩ := bO_e h
        clear h; subst z_n_19; have h := h9; clear h9
        obtain ⟨p_20, e_21, h⟩ := bO_e h
        refine vg_r S hK hV fX1_281 e_21 dX1_moved_36 ?_
        refine lv_iload hx hb dX1_moved_39 (lv_at hl 4 rfl) ?_
        obtain ⟨n_22, z_n_22, h9⟩ := bO_e h
        clear h; subst z_n_22; have h := h9; clear h9
        obtain ⟨o_25, e_26, h⟩ := bO_e h
        refine vk_q (vr_V (As := [.int x4]) (rest := []) S hK hG hA hV hS e_26 rfl (mvJ2_get l n_22 x4 V_13 _ h) (cwV 1 S.2.2.2.2 (lw_V q973 q608 q609 q144 q610) rfl rfl rfl cdJ2_get ⟨Nat.le_of_ble_eq_true rfl, Nat.le_of_ble_eq_true rfl⟩) rfl hl.1 (Nat.le_of_ble_eq_true rfl) dX1_moved_41 ⟨Nat.le_refl _, Nat.le_refl _⟩) hS (fun p_23 V_24 H locs h hV hS => ?_)
        obtain ⟨n_27, z_n_27, h9⟩ := bO_e h
        clear h; subst z_n_27; have h := h9; clear h9
        obtain ⟨o_28, e_29, h⟩ := bO_e h
        refine v_cast S hK hV e_29 ct_SaidSo_Page q1139 dX1_moved_44 ?_
        refine lv_astore (lv' := [(5, .ref n_27), (0, .ref a0), (1, .int a1), (2, .int x2), (3, .int x3), (4, .int x4)]) hx hb dX1_moved_47 hl (by decide) rfl (fun ls hl => ?_)
        refine lv_aload hx hb dX1_moved_49 (lv_at hl 0 rfl) ?_
        obtain ⟨g_30, e_31, h⟩ := bO_e h
        refine vg_i S hK hV fX1_286 e_31 dX1_moved_51 ?_
        refine lv_iload_n hx hb dX1_moved_54 rfl (lv_at hl 2 rfl) ?_
        refine lv_icmp_ne (tgt := 168) hx hb dX1_moved_55 (by decide) (fun c_32 => ?_) (fun c_32 => ?_)
        · replace h := h.2 c_32
          exact C168 _ ih _ _ _ _ _ _ _ hV hS (lv_sub hl [1, 2, 3, 4, 5] rfl) h
        · replace h := h.1 c_32
          refine lv_aload_n hx hb dX1_moved_58 rfl (lv_at hl 1 rfl) ?_
          refine lv_aload hx hb dX1_moved_59 (lv_at hl 0 rfl) ?_
          obtain ⟨o_36, e_37, h⟩ := bO_e h
          refine vk_i (vr_V (As := [.ref n_27]) (rest := []) S hK hG hA hV hS e_37 rfl (mvX1_kindOf l a0 n_27 V_24 _ h) (cwV 1 S.2.2.2.2 (lw_V q1144 q1146 qs45 q139 q1147) rfl rfl rfl cdX1_kindOf ⟨Nat.le_of_ble_eq_true rfl, Nat.le_of_ble_eq_true rfl⟩) rfl hl.1 (Nat.le_of_ble_eq_true rfl) dX1_moved_61 ⟨Nat.le_refl _, Nat.le_refl _⟩) hS (fun r_34 V_35 H locs h hV hS => ?_)
          refine lv_iconst hx hb dX1_moved_64 kc_1 ?_
          refine lv_icmp_le (tgt := 71) hx hb dX1_moved_65 (by decide) (fun c_38 => ?_) (fun c_38 => ?_)
          · replace h := h.1 c_38
            refine lv_aload_n hx hb dX1_moved_71 rfl (lv_at hl 1 rfl) ?_
            obtain ⟨p_39, e_40, h⟩ := bO_e h
            refine vg_r S hK hV fX1_61 e_40 dX1_moved_72 ?_
            refine lv_iload_n hx hb dX1_moved_75 rfl (lv_at hl 3 rfl) ?_
            refine lv_aload_n hx hb dX1_moved_76 rfl (lv_at hl 1 rfl) ?_
            refine lv_iload_n hx hb dX1_moved_77 rfl (lv_at hl 2 rfl) ?_
            refine lv_aload hx hb dX1_moved_78 (lv_at hl 0 rfl) ?_
            obtain ⟨g_41, e_42, h⟩ := bO_e h
            refine vg_i S hK hV fX1_287 e_42 dX1_moved_80 ?_
            refine lv_aload hx hb dX1_moved_83 (lv_at hl 0 rfl) ?_
            obtain ⟨g_43, e_44, h⟩ := bO_e h
            refine vg_i S hK hV fX1_300 e_44 dX1_moved_85 ?_
            obtain ⟨o_47, e_48, h⟩ := bO_e h
            refine vk_i (vr_V (As := [.int a1, .int g_41, .int g_43]) (rest := [.int x2, va_rf p_39]) S hK hG hA hV hS e_48 rfl (mvX1_said l a0 a1 g_41 g_43 V_35 _ h) (cwV 3 S.2.2.2.2 (lw_V q1152 q1154 qs47 q139 q1155) rfl rfl rfl cdX1_said ⟨Nat.le_of_ble_eq_true rfl, Nat.le_of_ble_eq_true rfl⟩) rfl hl.1 (by cases p_39 <;> exact Nat.le_of_ble_eq_true rfl) dX1_moved_88 ⟨Nat.le_refl _, Nat.le_refl _⟩) hS (fun r_45 V_46 H locs h hV hS => ?_)
            obtain ⟨n_49, z_n_49, h9⟩ := bO_e h
            clear h; subst z_n_49; have h := h9; clear h9
            obtain ⟨V_50, e_51, h⟩ := bO_e h
            refine vs_i S hK hV hS e_51 dX1_moved_91 (fun H locs hV hS => ?_)
            refine lv_aload_n hx hb dX1_moved_92 rfl (lv_at hl 1 rfl) ?_
            obtain ⟨p_52, e_53, h⟩ := bO_e h
            refine vg_r S hK hV fX1_57 e_53 dX1_moved_93 ?_
            refine lv_iload_n hx hb dX1_moved_96 rfl (lv_at hl 3 rfl) ?_
            refine lv_iconst hx hb dX1_moved_97 kc_1 ?_
            obtain ⟨n_54, z_n_54, h9⟩ := bO_e h
            clear h; subst z_n_54; have h := h9; clear h9
            obtain ⟨V_55, e_56, h⟩ := bO_e h
            refine vs_i S hK hV hS e_56 dX1_moved_98 (fun H locs hV hS => ?_)
            refine lv_iconst hx hb dX1_moved_99 kc_0 ?_
            refine lv_istore (lv' := [(6, .int (0 : Int32)), (5, .ref n_27), (0, .ref a0), (1, .int a1), (2, .int x2), (3, .int x3), (4, .int x4)]) hx hb dX1_moved_100 hl (by decide) rfl (fun ls hl => ?_)
            obtain ⟨f, h⟩ := h
            exact L102 _ ih f _ _ _ _ _ _ _ _ hV hS (lv_sub hl [2, 3, 4, 5, 6, 0] rfl) h
          · replace h := h.2 c_38
            refine lv_goto (tgt := 168) hx hb dX1_moved_68 (by decide) ?_
            exact C168 _ ih _ _ _ _ _ _ _ hV hS (lv_sub hl [1, 2, 3, 4, 5] rfl) h
  unfold vX1_moved at h
  refine lv_aload_n hx hb dX1_moved_0 rfl (lv_at hl 0 rfl) ?_
  refine lv_iload_n hx hb dX1_moved_1 rfl (lv_at hl 1 rfl) ?_
  obtain ⟨o_3, e_4, h⟩ := bO_e h
  refine vk_i (vr_V (As := [.int a1]) (rest := []) S hK hG hA hV hS e_4 rfl (mvX1_isTeller l a0 a1 V _ h) (cwV 1 S.2.2.2.2 (lw_V q968 q970 qs31 q139 q971) rfl rfl rfl cdX1_isTeller ⟨Nat.le_of_ble_eq_true rfl, Nat.le_of_ble_eq_true rfl⟩) rfl hl.1 (Nat.le_of_ble_eq_true rfl) dX1_moved_2 ⟨Nat.le_refl _, Nat.le_refl _⟩) hS (fun r_1 V_2 H locs h hV hS => ?_)
  refine lv_if_ne (tgt := 10) hx hb dX1_moved_5 (by decide) (fun c_5 => ?_) (fun c_5 => ?_)
  · replace h := h.2 c_5
    refine lv_iconst hx hb dX1_moved_10 kc_0 ?_
    refine lv_istore_n (lv' := [(2, .int (0 : Int32)), (0, .ref a0), (1, .int a1)]) hx hb dX1_moved_11 rfl hl (by decide) rfl (fun ls hl => ?_)
    refine lv_iconst hx hb dX1_moved_12 kc_0 ?_
    refine lv_istore_n (lv' := [(3, .int (0 : Int32)), (2, .int (0 : Int32)), (0, .ref a0), (1, .int a1)]) hx hb dX1_moved_13 rfl hl (by decide) rfl (fun ls hl => ?_)
    refine lv_iconst hx hb dX1_moved_14 kc_0 ?_
    refine lv_istore (lv' := [(4, .int (0 : Int32)), (3, .int (0 : Int32)), (2, .int (0 : Int32)), (0, .ref a0), (1, .int a1)]) hx hb dX1_moved_15 hl (by decide) rfl (fun ls hl => ?_)
    obtain ⟨f, h⟩ := h
    exact L17 f _ _ _ _ _ _ _ hV hS (lv_sub hl [3, 4, 2, 1, 0] rfl) h
  · replace h := h.1 c_5
    refine lv_iconst hx hb dX1_moved_8 kc_m1 ?_
    exact ve_i S hlocks hret hV hS h rfl (Nat.le_refl _) (Nat.le_refl _) dX1_moved_9
def vX1_storyOf (cA : Nat → ClassId) (a0 : Nat) (a1 : Int32) (a2 : Int32) (V : VS) (Post : Int32 → VS → Prop) : Prop := bO (vO V [1] a0) (fun o_3 => vX1_latest cA a0 a1 a2 V (fun p_1 V_2 => (p_1 = none → (Post (-1 : Int32) V_2)) ∧ (∀ n_5 : Nat, p_1 = some n_5 → (bO (gI V_2 [7] n_5 5) (fun g_6 => Post g_6 V_2)))))
abbrev rX1_storyOf : Room := { frames := 6, cells := 0, slots := 0, locals := 136 }
theorem cdX1_storyOf : yX1_storyOf.cls = RX1 ∧ yX1_storyOf.cls ≠ "java/lang/invoke/MethodHandle" ∧ yX1_storyOf.cls ≠ "java/lang/invoke/VarHandle" ∧ (parseMethodDescriptor yX1_storyOf.desc).map (fun d => d.parameters.length) = some 2 := by decide +kernel
set_option maxHeartbeats 4000000 in
set_option maxRecDepth 100000 in
theorem mvX1_storyOf (l : Launch) {D : va_G} {cA : Nat → ClassId} {A : Nat → Prop} (a0 : Nat) (a1 : Int32) (a2 : Int32) (V : VS) (Post : Int32 → VS → Prop) (h : vX1_storyOf cA a0 a1 a2 V Post) : Met l yX1_storyOf (ws_ yX1_storyOf cX1_storyOf 4 (some (.int))) rX1_storyOf (vPc [.ref a0, .int a1, .int a2] D cA A V) (va_Qi Post (vB D A) A) 0 0 A := by
  refine vstM (own := RX1) (by decide) rfl (Nat.le_of_ble_eq_true rfl) ?_
  intro p e s m args below meth c ls X hret hV hS hl
  obtain ⟨S, hK, hG, hA, hnm, hlocks⟩ := X
  have hx := S.1
  have hb := S.2.1
  have hl : lv_has ls 4 [(0, .ref a0), (1, .int a1), (2, .int a2)] := hl
  unfold vX1_storyOf at h
  refine lv_aload_n hx hb dX1_storyOf_0 rfl (lv_at hl 0 rfl) ?_
  refine lv_iload_n hx hb dX1_storyOf_1 rfl (lv_at hl 1 rfl) ?_
  refine lv_iload_n hx hb dX1_storyOf_2 rfl (lv_at hl 2 rfl) ?_
  obtain ⟨o_3, e_4, h⟩ := bO_e h
  refine vk_q (vr_V (As := [.int a1, .int a2]) (rest := []) S hK hG hA hV hS e_4 rfl (mvX1_latest l a0 a1 a2 V _ h) (cwV 2 S.2.2.2.2 (lw_V q1148 q1150 qs46 q139 q1151) rfl rfl rfl cdX1_latest ⟨Nat.le_of_ble_eq_true rfl, Nat.le_of_ble_eq_true rfl⟩) rfl hl.1 (Nat.le_of_ble_eq_true rfl) dX1_storyOf_3 ⟨Nat.le_refl _, Nat.le_refl _⟩) hS (fun p_1 V_2 H locs h hV hS => ?_)
  refine lv_astore_nQ (r := p_1) (lv' := [(3, va_rf p_1), (0, .ref a0), (1, .int a1), (2, .int a2)]) hx hb dX1_storyOf_6 rfl hl (by decide) rfl (fun ls hl => ?_)
  refine lv_aload_nQ hx hb dX1_storyOf_7 rfl (lv_at hl 0 rfl) ?_
  rcases p_1 with _ | n_5
  · replace h := h.1 rfl
    refine lv_ifnonnullN hx hb dX1_storyOf_8 ?_
    refine lv_iconst hx hb dX1_storyOf_11 kc_m1 ?_
    refine lv_goto (tgt := 19) hx hb dX1_storyOf_12 (by decide) ?_
    exact ve_i S hlocks hret hV hS h rfl (Nat.le_refl _) (Nat.le_refl _) dX1_storyOf_19
  · replace h := h.2 n_5 rfl
    refine lv_ifnonnull (tgt := 15) hx hb dX1_storyOf_8 (by decide) ?_
    refine lv_aload_n hx hb dX1_storyOf_15 rfl (lv_at hl 0 rfl) ?_
    obtain ⟨g_6, e_7, h⟩ := bO_e h
    refine vg_i S hK hV fX1_304 e_7 dX1_storyOf_16 ?_
    exact ve_i S hlocks hret hV hS h rfl (Nat.le_refl _) (Nat.le_refl _) dX1_storyOf_19
def vX1_story (cA : Nat → ClassId) (a0 : Nat) (a1 : Int32) (a2 : Int32) (V : VS) (Post : Int32 → VS → Prop) : Prop := bO (vO V [1] a0) (fun o_3 => vX1_isTeller cA a0 a1 V (fun r_1 V_2 => (r_1 = 0 → (Post (-2 : Int32) V_2)) ∧ (¬ (r_1 = 0) → (bO (vO V_2 [1] a0) (fun o_8 => vX1_isThing cA a0 a2 V_2 (fun r_6 V_7 => (r_6 = 0 → (Post (-2 : Int32) V_7)) ∧ (¬ (r_6 = 0) → (bO (vO V_7 [1] a0) (fun o_13 => vX1_storyOf cA a0 a1 a2 V_7 (fun r_11 V_12 => Post r_11 V_12))))))))))
abbrev rX1_story : Room := { frames := 7, cells := 0, slots := 0, locals := 159 }
theorem cdX1_story : yX1_story.cls = RX1 ∧ yX1_story.cls ≠ "java/lang/invoke/MethodHandle" ∧ yX1_story.cls ≠ "java/lang/invoke/VarHandle" ∧ (parseMethodDescriptor yX1_story.desc).map (fun d => d.parameters.length) = some 2 := by decide +kernel
set_option maxHeartbeats 4000000 in
set_option maxRecDepth 100000 in
theorem mvX1_story (l : Launch) {D : va_G} {cA : Nat → ClassId} {A : Nat → Prop} (a0 : Nat) (a1 : Int32) (a2 : Int32) (V : VS) (Post : Int32 → VS → Prop) (h : vX1_story cA a0 a1 a2 V Post) : Met l yX1_story (ws_ yX1_story cX1_story 3 (some (.int))) rX1_story (vPc [.ref a0, .int a1, .int a2] D cA A V) (va_Qi Post (vB D A) A) 0 0 A := by
  refine vstM (own := RX1) (by decide) rfl (Nat.le_of_ble_eq_true rfl) ?_
  intro p e s m args below meth c ls X hret hV hS hl
  obtain ⟨S, hK, hG, hA, hnm, hlocks⟩ := X
  have hx := S.1
  have hb := S.2.1
  have hl : lv_has ls 3 [(0, .ref a0), (1, .int a1), (2, .int a2)] := hl
  unfold vX1_story at h
  refine lv_aload_n hx hb dX1_story_0 rfl (lv_at hl 0 rfl) ?_
  refine lv_iload_n hx hb dX1_story_1 rfl (lv_at hl 1 rfl) ?_
  obtain ⟨o_3, e_4, h⟩ := bO_e h
  refine vk_i (vr_V (As := [.int a1]) (rest := []) S hK hG hA hV hS e_4 rfl (mvX1_isTeller l a0 a1 V _ h) (cwV 1 S.2.2.2.2 (lw_V q968 q970 qs31 q139 q971) rfl rfl rfl cdX1_isTeller ⟨Nat.le_of_ble_eq_true rfl, Nat.le_of_ble_eq_true rfl⟩) rfl hl.1 (Nat.le_of_ble_eq_true rfl) dX1_story_2 ⟨Nat.le_refl _, Nat.le_refl _⟩) hS (fun r_1 V_2 H locs h hV hS => ?_)
  refine lv_if_eq (tgt := 25) hx hb dX1_story_5 (by decide) (fun c_5 => ?_) (fun c_5 => ?_)
  · replace h := h.1 c_5
    refine lv_bipush hx hb dX1_story_25 kb_m2 ?_
    exact ve_i S hlocks hret hV hS h rfl (Nat.le_refl _) (Nat.le_refl _) dX1_story_27
  · replace h := h.2 c_5
    refine lv_aload_n hx hb dX1_story_8 rfl (lv_at hl 0 rfl) ?_
    refine lv_iload_n hx hb dX1_story_9 rfl (lv_at hl 2 rfl) ?_
    obtain ⟨o_8, e_9, h⟩ := bO_e h
    refine vk_i (vr_V (As := [.int a2]) (rest := []) S hK hG hA hV hS e_9 rfl (mvX1_isThing l a0 a2 V_2 _ h) (cwV 1 S.2.2.2.2 (lw_V q996 q998 qs33 q139 q999) rfl rfl rfl cdX1_isThing ⟨Nat.le_of_ble_eq_true rfl, Nat.le_of_ble_eq_true rfl⟩) rfl hl.1 (Nat.le_of_ble_eq_true rfl) dX1_story_10 ⟨Nat.le_refl _, Nat.le_refl _⟩) hS (fun r_6 V_7 H locs h hV hS => ?_)
    refine lv_if_eq (tgt := 25) hx hb dX1_story_13 (by decide) (fun c_10 => ?_) (fun c_10 => ?_)
    · replace h := h.1 c_10
      refine lv_bipush hx hb dX1_story_25 kb_m2 ?_
      exact ve_i S hlocks hret hV hS h rfl (Nat.le_refl _) (Nat.le_refl _) dX1_story_27
    · replace h := h.2 c_10
      refine lv_aload_n hx hb dX1_story_16 rfl (lv_at hl 0 rfl) ?_
      refine lv_iload_n hx hb dX1_story_17 rfl (lv_at hl 1 rfl) ?_
      refine lv_iload_n hx hb dX1_story_18 rfl (lv_at hl 2 rfl) ?_
      obtain ⟨o_13, e_14, h⟩ := bO_e h
      refine vk_i (vr_V (As := [.int a1, .int a2]) (rest := []) S hK hG hA hV hS e_14 rfl (mvX1_storyOf l a0 a1 a2 V_7 _ h) (cwV 2 S.2.2.2.2 (lw_V q1173 q1175 qs49 q139 q1176) rfl rfl rfl cdX1_storyOf ⟨Nat.le_of_ble_eq_true rfl, Nat.le_of_ble_eq_true rfl⟩) rfl hl.1 (Nat.le_of_ble_eq_true rfl) dX1_story_19 ⟨Nat.le_refl _, Nat.le_refl _⟩) hS (fun r_11 V_12 H locs h hV hS => ?_)
      refine lv_goto (tgt := 27) hx hb dX1_story_22 (by decide) ?_
      exact ve_i S hlocks hret hV hS h rfl (Nat.le_refl _) (Nat.le_refl _) dX1_story_27
def vX1_clashes_c65 (cA : Nat → ClassId) (a0 : Nat) (a1 : Int32) (a2 : Int32) (k5 : Int32 → Int32 → VS → Prop) (Post : Int32 → VS → Prop) (x4 : Int32) (t0 : Int32) (t1 : Int32) (V : VS) : Prop := ∀ v_17 : Int32, v_17 = t1 + t0 → ∀ v_18 : Int32, v_18 = x4 + (1 : Int32) → k5 v_17 v_18 V
def vX1_clashes_c64 (cA : Nat → ClassId) (a0 : Nat) (a1 : Int32) (a2 : Int32) (k5 : Int32 → Int32 → VS → Prop) (Post : Int32 → VS → Prop) (x4 : Int32) (t0 : Int32) (V : VS) : Prop := vX1_clashes_c65 cA a0 a1 a2 k5 Post x4 (0 : Int32) t0 V
def vX1_clashes_l5 (cA : Nat → ClassId) (a0 : Nat) (a1 : Int32) (a2 : Int32) (Post : Int32 → VS → Prop) : Nat → Int32 → Int32 → VS → Prop
  | 0, _, _, _ => False
  | n + 1, x3, x4, V => bO (gR V [1] a0 11) (fun p_1 => bO p_1 (fun n_3 => bO (gR V [3] n_3 0) (fun p_4 => bO p_4 (fun n_6 => bO (vO V [14] n_6) (fun o_9 => vJ2_size cA n_6 V (fun r_7 V_8 => (r_7 ≤ x4 → (Post x3 V_8)) ∧ (¬ (r_7 ≤ x4) → (bO (vO V_8 [1] a0) (fun o_14 => vX1_storyOf cA a0 a1 x4 V_8 (fun r_12 V_13 => (r_12 = (-1 : Int32) → (vX1_clashes_c64 cA a0 a1 a2 (vX1_clashes_l5 cA a0 a1 a2 Post n) Post x4 x3 V_13)) ∧ (¬ (r_12 = (-1 : Int32)) → (bO (vO V_13 [1] a0) (fun o_21 => vX1_storyOf cA a0 a2 x4 V_13 (fun r_19 V_20 => (r_19 = (-1 : Int32) → (vX1_clashes_c64 cA a0 a1 a2 (vX1_clashes_l5 cA a0 a1 a2 Post n) Post x4 x3 V_20)) ∧ (¬ (r_19 = (-1 : Int32)) → (bO (vO V_20 [1] a0) (fun o_26 => vX1_storyOf cA a0 a1 x4 V_20 (fun r_24 V_25 => bO (vO V_25 [1] a0) (fun o_30 => vX1_storyOf cA a0 a2 x4 V_25 (fun r_28 V_29 => (r_24 = r_28 → (vX1_clashes_c64 cA a0 a1 a2 (vX1_clashes_l5 cA a0 a1 a2 Post n) Post x4 x3 V_29)) ∧ (¬ (r_24 = r_28) → (vX1_clashes_c65 cA a0 a1 a2 (vX1_clashes_l5 cA a0 a1 a2 Post n) Post x4 (1 : Int32) x3 V_29))))))))))))))))))))))
def vX1_clashes (cA : Nat → ClassId) (a0 : Nat) (a1 : Int32) (a2 : Int32) (V : VS) (Post : Int32 → VS → Prop) : Prop := ∃ f, vX1_clashes_l5 cA a0 a1 a2 Post f (0 : Int32) (0 : Int32) V
abbrev rX1_clashes : Room := { frames := 7, cells := 0, slots := 0, locals := 159 }
theorem cdX1_clashes : yX1_clashes.cls = RX1 ∧ yX1_clashes.cls ≠ "java/lang/invoke/MethodHandle" ∧ yX1_clashes.cls ≠ "java/lang/invoke/VarHandle" ∧ (parseMethodDescriptor yX1_clashes.desc).map (fun d => d.parameters.length) = some 2 := by decide +kernel
set_option maxHeartbeats 4000000 in
set_option maxRecDepth 100000 in
theorem mvX1_clashes (l : Launch) {D : va_G} {cA : Nat → ClassId} {A : Nat → Prop} (a0 : Nat) (a1 : Int32) (a2 : Int32) (V : VS) (Post : Int32 → VS → Prop) (h : vX1_clashes cA a0 a1 a2 V Post) : Met l yX1_clashes (ws_ yX1_clashes cX1_clashes 5 (some (.int))) rX1_clashes (vPc [.ref a0, .int a1, .int a2] D cA A V) (va_Qi Post (vB D A) A) 0 0 A := by
  refine vstM (own := RX1) (by decide) rfl (Nat.le_of_ble_eq_true rfl) ?_
  intro p e s m args below meth c ls X hret hV hS hl
  obtain ⟨S, hK, hG, hA, hnm, hlocks⟩ := X
  have hx := S.1
  have hb := S.2.1
  have hl : lv_has ls 5 [(0, .ref a0), (1, .int a1), (2, .int a2)] := hl
  have C65 : ∀ (k5 : Int32 → Int32 → VS → Prop) (K5 : (∀ (x3 : Int32) (x4 : Int32) (V : VS) (H : Heap) (locs : List Loc) (ls : Array Slot), HV D A V H → va_S A s.heap H locs → lv_has ls 5 [(0, .ref a0), (1, .int a1), (2, .int a2), (3, .int x3), (4, .int x4)] → k5 x3 x4 V → W p l e rX1_clashes s m args below meth c H locs 0 0 (MQ below (va_Qi Post (vB D A) A) args s 0 0 A) (F0 m 5 ls []))), ∀ (x4 : Int32) (t0 : Int32) (t1 : Int32) (V : VS) (H : Heap) (locs : List Loc) (ls : Array Slot), HV D A V H → va_S A s.heap H locs → lv_has ls 5 [(0, .ref a0), (1, .int a1), (2, .int a2), (4, .int x4)] → vX1_clashes_c65 cA a0 a1 a2 k5 Post x4 t0 t1 V → W p l e rX1_clashes s m args below meth c H locs 0 0 (MQ below (va_Qi Post (vB D A) A) args s 0 0 A) (F0 m 65 ls [.int t0, .int t1]) := by
    intro k5 K5
    intro x4 t0 t1 V H locs ls hV hS hl h
    unfold vX1_clashes_c65 at h
    refine lv_iadd hx hb dX1_clashes_65 ?_
    refine lv_topi (fun v_17 e_v_17 => ?_)
    replace h := h v_17 e_v_17
    refine lv_istore_n (lv' := [(3, .int v_17), (0, .ref a0), (1, .int a1), (2, .int a2), (4, .int x4)]) hx hb dX1_clashes_66 rfl hl (by decide) rfl (fun ls hl => ?_)
    obtain ⟨v_18, e_v_18⟩ : ∃ y : Int32, y = x4 + (1 : Int32) := ⟨_, rfl⟩
    replace h := h v_18 e_v_18
    refine lv_iinc (v := v_18) (lv' := [(4, .int v_18), (3, .int v_17), (0, .ref a0), (1, .int a1), (2, .int a2)]) hx hb dX1_clashes_67 hl (k := 4) rfl (by rw [kc_1, e_v_18]) (by decide) rfl (fun ls hl => ?_)
    refine lv_goto (tgt := 5) hx hb dX1_clashes_70 (by decide) ?_
    exact K5 _ _ _ _ _ _ hV hS (lv_sub hl [2, 3, 4, 1, 0] rfl) h
  have C64 : ∀ (k5 : Int32 → Int32 → VS → Prop) (K5 : (∀ (x3 : Int32) (x4 : Int32) (V : VS) (H : Heap) (locs : List Loc) (ls : Array Slot), HV D A V H → va_S A s.heap H locs → lv_has ls 5 [(0, .ref a0), (1, .int a1), (2, .int a2), (3, .int x3), (4, .int x4)] → k5 x3 x4 V → W p l e rX1_clashes s m args below meth c H locs 0 0 (MQ below (va_Qi Post (vB D A) A) args s 0 0 A) (F0 m 5 ls []))), ∀ (x4 : Int32) (t0 : Int32) (V : VS) (H : Heap) (locs : List Loc) (ls : Array Slot), HV D A V H → va_S A s.heap H locs → lv_has ls 5 [(0, .ref a0), (1, .int a1), (2, .int a2), (4, .int x4)] → vX1_clashes_c64 cA a0 a1 a2 k5 Post x4 t0 V → W p l e rX1_clashes s m args below meth c H locs 0 0 (MQ below (va_Qi Post (vB D A) A) args s 0 0 A) (F0 m 64 ls [.int t0]) := by
    intro k5 K5
    intro x4 t0 V H locs ls hV hS hl h
    unfold vX1_clashes_c64 at h
    refine lv_iconst hx hb dX1_clashes_64 kc_0 ?_
    exact C65 _ K5 _ _ _ _ _ _ _ hV hS (lv_sub hl [0, 1, 2, 3] rfl) h
  have L5 : ∀ (n : Nat) (x3 : Int32) (x4 : Int32) (V : VS) (H : Heap) (locs : List Loc) (ls : Array Slot), HV D A V H → va_S A s.heap H locs → lv_has ls 5 [(0, .ref a0), (1, .int a1), (2, .int a2), (3, .int x3), (4, .int x4)] → vX1_clashes_l5 cA a0 a1 a2 Post n x3 x4 V → W p l e rX1_clashes s m args below meth c H locs 0 0 (MQ below (va_Qi Post (vB D A) A) args s 0 0 A) (F0 m 5 ls []) := by
    intro n
    induction n with
    | zero => intro x3 x4 V H locs ls hV hS hl h; rw [vX1_clashes_l5] at h; exact h.elim
    | succ n ih =>
      intro x3 x4 V H locs ls hV hS hl h
      rw [vX1_clashes_l5] at h
      refine lv_iload hx hb dX1_clashes_5 (lv_at hl 4 rfl) ?_
      refine lv_aload_n hx hb dX1_clashes_7 rfl (lv_at hl 0 rfl) ?_
      obtain ⟨p_1, e_2, h⟩ := bO_e h
      refine vg_r S hK hV fX1_49 e_2 dX1_clashes_8 ?_
      obtain ⟨n_3, z_n_3, h9⟩ := bO_e h
      clear h; subst z_n_3; have h := h9; clear h9
      obtain ⟨p_4, e_5, h⟩ := bO_e h
      refine vg_r S hK hV fX1_125 e_5 dX1_clashes_11 ?_
      obtain ⟨n_6, z_n_6, h9⟩ := bO_e h
      clear h; subst z_n_6; have h := h9; clear h9
      obtain ⟨o_9, e_10, h⟩ := bO_e h
      refine vk_i (vr_V (As := []) (rest := [.int x4]) S hK hG hA hV hS e_10 rfl (mvJ2_size l n_6 V _ h) (cwV 0 S.2.2.2.2 (lw_V q972 q591 q592 q144 q593) rfl rfl rfl cdJ2_size ⟨Nat.le_of_ble_eq_true rfl, Nat.le_of_ble_eq_true rfl⟩) rfl hl.1 (Nat.le_of_ble_eq_true rfl) dX1_clashes_14 ⟨Nat.le_refl _, Nat.le_refl _⟩) hS (fun r_7 V_8 H locs h hV hS => ?_)
      refine lv_icmp_ge (tgt := 73) hx hb dX1_clashes_17 (by decide) (fun c_11 => ?_) (fun c_11 => ?_)
      · replace h := h.1 c_11
        refine lv_iload_n hx hb dX1_clashes_73 rfl (lv_at hl 3 rfl) ?_
        exact ve_i S hlocks hret hV hS h rfl (Nat.le_refl _) (Nat.le_refl _) dX1_clashes_74
      · replace h := h.2 c_11
        refine lv_iload_n hx hb dX1_clashes_20 rfl (lv_at hl 3 rfl) ?_
        refine lv_aload_n hx hb dX1_clashes_21 rfl (lv_at hl 0 rfl) ?_
        refine lv_iload_n hx hb dX1_clashes_22 rfl (lv_at hl 1 rfl) ?_
        refine lv_iload hx hb dX1_clashes_23 (lv_at hl 4 rfl) ?_
        obtain ⟨o_14, e_15, h⟩ := bO_e h
        refine vk_i (vr_V (As := [.int a1, .int x4]) (rest := [.int x3]) S hK hG hA hV hS e_15 rfl (mvX1_storyOf l a0 a1 x4 V_8 _ h) (cwV 2 S.2.2.2.2 (lw_V q1173 q1175 qs49 q139 q1176) rfl rfl rfl cdX1_storyOf ⟨Nat.le_of_ble_eq_true rfl, Nat.le_of_ble_eq_true rfl⟩) rfl hl.1 (Nat.le_of_ble_eq_true rfl) dX1_clashes_25 ⟨Nat.le_refl _, Nat.le_refl _⟩) hS (fun r_12 V_13 H locs h hV hS => ?_)
        refine lv_iconst hx hb dX1_clashes_28 kc_m1 ?_
        refine lv_icmp_eq (tgt := 64) hx hb dX1_clashes_29 (by decide) (fun c_16 => ?_) (fun c_16 => ?_)
        · replace h := h.1 c_16
          exact C64 _ ih _ _ _ _ _ _ hV hS (lv_sub hl [0, 1, 2, 4] rfl) h
        · replace h := h.2 c_16
          refine lv_aload_n hx hb dX1_clashes_32 rfl (lv_at hl 0 rfl) ?_
          refine lv_iload_n hx hb dX1_clashes_33 rfl (lv_at hl 2 rfl) ?_
          refine lv_iload hx hb dX1_clashes_34 (lv_at hl 4 rfl) ?_
          obtain ⟨o_21, e_22, h⟩ := bO_e h
          refine vk_i (vr_V (As := [.int a2, .int x4]) (rest := [.int x3]) S hK hG hA hV hS e_22 rfl (mvX1_storyOf l a0 a2 x4 V_13 _ h) (cwV 2 S.2.2.2.2 (lw_V q1173 q1175 qs49 q139 q1176) rfl rfl rfl cdX1_storyOf ⟨Nat.le_of_ble_eq_true rfl, Nat.le_of_ble_eq_true rfl⟩) rfl hl.1 (Nat.le_of_ble_eq_true rfl) dX1_clashes_36 ⟨Nat.le_refl _, Nat.le_refl _⟩) hS (fun r_19 V_20 H locs h hV hS => ?_)
          refine lv_iconst hx hb dX1_clashes_39 kc_m1 ?_
          refine lv_icmp_eq (tgt := 64) hx hb dX1_clashes_40 (by decide) (fun c_23 => ?_) (fun c_23 => ?_)
          · replace h := h.1 c_23
            exact C64 _ ih _ _ _ _ _ _ hV hS (lv_sub hl [0, 1, 2, 4] rfl) h
          · replace h := h.2 c_23
            refine lv_aload_n hx hb dX1_clashes_43 rfl (lv_at hl 0 rfl) ?_
            refine lv_iload_n hx hb dX1_clashes_44 rfl (lv_at hl 1 rfl) ?_
            refine lv_iload hx hb dX1_clashes_45 (lv_at hl 4 rfl) ?_
            obtain ⟨o_26, e_27, h⟩ := bO_e h
            refine vk_i (vr_V (As := [.int a1, .int x4]) (rest := [.int x3]) S hK hG hA hV hS e_27 rfl (mvX1_storyOf l a0 a1 x4 V_20 _ h) (cwV 2 S.2.2.2.2 (lw_V q1173 q1175 qs49 q139 q1176) rfl rfl rfl cdX1_storyOf ⟨Nat.le_of_ble_eq_true rfl, Nat.le_of_ble_eq_true rfl⟩) rfl hl.1 (Nat.le_of_ble_eq_true rfl) dX1_clashes_47 ⟨Nat.le_refl _, Nat.le_refl _⟩) hS (fun r_24 V_25 H locs h hV hS => ?_)
            refine lv_aload_n hx hb dX1_clashes_50 rfl (lv_at hl 0 rfl) ?_
            refine lv_iload_n hx hb dX1_clashes_51 rfl (lv_at hl 2 rfl) ?_
            refine lv_iload hx hb dX1_clashes_52 (lv_at hl 4 rfl) ?_
            obtain ⟨o_30, e_31, h⟩ := bO_e h
            refine vk_i (vr_V (As := [.int a2, .int x4]) (rest := [.int r_24, .int x3]) S hK hG hA hV hS e_31 rfl (mvX1_storyOf l a0 a2 x4 V_25 _ h) (cwV 2 S.2.2.2.2 (lw_V q1173 q1175 qs49 q139 q1176) rfl rfl rfl cdX1_storyOf ⟨Nat.le_of_ble_eq_true rfl, Nat.le_of_ble_eq_true rfl⟩) rfl hl.1 (Nat.le_of_ble_eq_true rfl) dX1_clashes_54 ⟨Nat.le_refl _, Nat.le_refl _⟩) hS (fun r_28 V_29 H locs h hV hS => ?_)
            refine lv_icmp_eq (tgt := 64) hx hb dX1_clashes_57 (by decide) (fun c_32 => ?_) (fun c_32 => ?_)
            · replace h := h.1 c_32
              exact C64 _ ih _ _ _ _ _ _ hV hS (lv_sub hl [0, 1, 2, 4] rfl) h
            · replace h := h.2 c_32
              refine lv_iconst hx hb dX1_clashes_60 kc_1 ?_
              refine lv_goto (tgt := 65) hx hb dX1_clashes_61 (by decide) ?_
              exact C65 _ ih _ _ _ _ _ _ _ hV hS (lv_sub hl [0, 1, 2, 4] rfl) h
  unfold vX1_clashes at h
  refine lv_iconst hx hb dX1_clashes_0 kc_0 ?_
  refine lv_istore_n (lv' := [(3, .int (0 : Int32)), (0, .ref a0), (1, .int a1), (2, .int a2)]) hx hb dX1_clashes_1 rfl hl (by decide) rfl (fun ls hl => ?_)
  refine lv_iconst hx hb dX1_clashes_2 kc_0 ?_
  refine lv_istore (lv' := [(4, .int (0 : Int32)), (3, .int (0 : Int32)), (0, .ref a0), (1, .int a1), (2, .int a2)]) hx hb dX1_clashes_3 hl (by decide) rfl (fun ls hl => ?_)
  obtain ⟨f, h⟩ := h
  exact L5 f _ _ _ _ _ _ hV hS (lv_sub hl [2, 3, 4, 1, 0] rfl) h
def vX1_clash (cA : Nat → ClassId) (a0 : Nat) (a1 : Int32) (a2 : Int32) (V : VS) (Post : Int32 → VS → Prop) : Prop := bO (vO V [1] a0) (fun o_3 => vX1_isTeller cA a0 a1 V (fun r_1 V_2 => (r_1 = 0 → (Post (-1 : Int32) V_2)) ∧ (¬ (r_1 = 0) → (bO (vO V_2 [1] a0) (fun o_8 => vX1_isTeller cA a0 a2 V_2 (fun r_6 V_7 => (r_6 = 0 → (Post (-1 : Int32) V_7)) ∧ (¬ (r_6 = 0) → ((a1 = a2 → (Post (-1 : Int32) V_7)) ∧ (¬ (a1 = a2) → (bO (vO V_7 [1] a0) (fun o_14 => vX1_clashes cA a0 a1 a2 V_7 (fun r_12 V_13 => Post r_12 V_13))))))))))))
abbrev rX1_clash : Room := { frames := 8, cells := 0, slots := 0, locals := 183 }
theorem cdX1_clash : yX1_clash.cls = RX1 ∧ yX1_clash.cls ≠ "java/lang/invoke/MethodHandle" ∧ yX1_clash.cls ≠ "java/lang/invoke/VarHandle" ∧ (parseMethodDescriptor yX1_clash.desc).map (fun d => d.parameters.length) = some 2 := by decide +kernel
set_option maxHeartbeats 4000000 in
set_option maxRecDepth 100000 in
theorem mvX1_clash (l : Launch) {D : va_G} {cA : Nat → ClassId} {A : Nat → Prop} (a0 : Nat) (a1 : Int32) (a2 : Int32) (V : VS) (Post : Int32 → VS → Prop) (h : vX1_clash cA a0 a1 a2 V Post) : Met l yX1_clash (ws_ yX1_clash cX1_clash 3 (some (.int))) rX1_clash (vPc [.ref a0, .int a1, .int a2] D cA A V) (va_Qi Post (vB D A) A) 0 0 A := by
  refine vstM (own := RX1) (by decide) rfl (Nat.le_of_ble_eq_true rfl) ?_
  intro p e s m args below meth c ls X hret hV hS hl
  obtain ⟨S, hK, hG, hA, hnm, hlocks⟩ := X
  have hx := S.1
  have hb := S.2.1
  have hl : lv_has ls 3 [(0, .ref a0), (1, .int a1), (2, .int a2)] := hl
  unfold vX1_clash at h
  refine lv_aload_n hx hb dX1_clash_0 rfl (lv_at hl 0 rfl) ?_
  refine lv_iload_n hx hb dX1_clash_1 rfl (lv_at hl 1 rfl) ?_
  obtain ⟨o_3, e_4, h⟩ := bO_e h
  refine vk_i (vr_V (As := [.int a1]) (rest := []) S hK hG hA hV hS e_4 rfl (mvX1_isTeller l a0 a1 V _ h) (cwV 1 S.2.2.2.2 (lw_V q968 q970 qs31 q139 q971) rfl rfl rfl cdX1_isTeller ⟨Nat.le_of_ble_eq_true rfl, Nat.le_of_ble_eq_true rfl⟩) rfl hl.1 (Nat.le_of_ble_eq_true rfl) dX1_clash_2 ⟨Nat.le_refl _, Nat.le_refl _⟩) hS (fun r_1 V_2 H locs h hV hS => ?_)
  refine lv_if_eq (tgt := 30) hx hb dX1_clash_5 (by decide) (fun c_5 => ?_) (fun c_5 => ?_)
  · replace h := h.1 c_5
    refine lv_iconst hx hb dX1_clash_30 kc_m1 ?_
    exact ve_i S hlocks hret hV hS h rfl (Nat.le_refl _) (Nat.le_refl _) dX1_clash_31
  · replace h := h.2 c_5
    refine lv_aload_n hx hb dX1_clash_8 rfl (lv_at hl 0 rfl) ?_
    refine lv_iload_n hx hb dX1_clash_9 rfl (lv_at hl 2 rfl) ?_
    obtain ⟨o_8, e_9, h⟩ := bO_e h
    refine vk_i (vr_V (As := [.int a2]) (rest := []) S hK hG hA hV hS e_9 rfl (mvX1_isTeller l a0 a2 V_2 _ h) (cwV 1 S.2.2.2.2 (lw_V q968 q970 qs31 q139 q971) rfl rfl rfl cdX1_isTeller ⟨Nat.le_of_ble_eq_true rfl, Nat.le_of_ble_eq_true rfl⟩) rfl hl.1 (Nat.le_of_ble_eq_true rfl) dX1_clash_10 ⟨Nat.le_refl _, Nat.le_refl _⟩) hS (fun r_6 V_7 H locs h hV hS => ?_)
    refine lv_if_eq (tgt := 30) hx hb dX1_clash_13 (by decide) (fun c_10 => ?_) (fun c_10 => ?_)
    · replace h := h.1 c_10
      refine lv_iconst hx hb dX1_clash_30 kc_m1 ?_
      exact ve_i S hlocks hret hV hS h rfl (Nat.le_refl _) (Nat.le_refl _) dX1_clash_31
    · replace h := h.2 c_10
      refine lv_iload_n hx hb dX1_clash_16 rfl (lv_at hl 1 rfl) ?_
      refine lv_iload_n hx hb dX1_clash_17 rfl (lv_at hl 2 rfl) ?_
      refine lv_icmp_eq (tgt := 30) hx hb dX1_clash_18 (by decide) (fun c_11 => ?_) (fun c_11 => ?_)
      · replace h := h.1 c_11
        refine lv_iconst hx hb dX1_clash_30 kc_m1 ?_
        exact ve_i S hlocks hret hV hS h rfl (Nat.le_refl _) (Nat.le_refl _) dX1_clash_31
      · replace h := h.2 c_11
        refine lv_aload_n hx hb dX1_clash_21 rfl (lv_at hl 0 rfl) ?_
        refine lv_iload_n hx hb dX1_clash_22 rfl (lv_at hl 1 rfl) ?_
        refine lv_iload_n hx hb dX1_clash_23 rfl (lv_at hl 2 rfl) ?_
        obtain ⟨o_14, e_15, h⟩ := bO_e h
        refine vk_i (vr_V (As := [.int a1, .int a2]) (rest := []) S hK hG hA hV hS e_15 rfl (mvX1_clashes l a0 a1 a2 V_7 _ h) (cwV 2 S.2.2.2.2 (lw_V q1181 q1183 qs50 q139 q1184) rfl rfl rfl cdX1_clashes ⟨Nat.le_of_ble_eq_true rfl, Nat.le_of_ble_eq_true rfl⟩) rfl hl.1 (Nat.le_of_ble_eq_true rfl) dX1_clash_24 ⟨Nat.le_refl _, Nat.le_refl _⟩) hS (fun r_12 V_13 H locs h hV hS => ?_)
        refine lv_goto (tgt := 31) hx hb dX1_clash_27 (by decide) ?_
        exact ve_i S hlocks hret hV hS h rfl (Nat.le_refl _) (Nat.le_refl _) dX1_clash_31
def vX1_together_c124 (cA : Nat → ClassId) (a0 : Nat) (k4 : Int32 → Int32 → VS → Prop) (Post : Int32 → VS → Prop) (x1 : Int32) (x2 : Int32) (V : VS) : Prop := ∀ v_27 : Int32, v_27 = x2 + (1 : Int32) → k4 x1 v_27 V
def vX1_together_c118 (cA : Nat → ClassId) (a0 : Nat) (k4 : Int32 → Int32 → VS → Prop) (Post : Int32 → VS → Prop) (x1 : Int32) (x2 : Int32) (x3 : Int32) (V : VS) : Prop := (x3 = 0 → (vX1_together_c124 cA a0 k4 Post x1 x2 V)) ∧ (¬ (x3 = 0) → (vX1_together_c124 cA a0 k4 Post x2 x2 V))
def vX1_together_c104 (cA : Nat → ClassId) (a0 : Nat) (k4 : Int32 → Int32 → VS → Prop) (k40 : Int32 → Int32 → Int32 → Int32 → VS → Prop) (k62 : Int32 → Int32 → Int32 → Int32 → Int32 → VS → Prop) (Post : Int32 → VS → Prop) (x1 : Int32) (x2 : Int32) (x4 : Int32) (x5 : Int32) (t0 : Int32) (t1 : Int32) (V : VS) : Prop := ∀ v_32 : Int32, v_32 = t1 &&& t0 → ∀ v_33 : Int32, v_33 = x5 + (1 : Int32) → k62 x1 x2 v_32 x4 v_33 V
def vX1_together_c99 (cA : Nat → ClassId) (a0 : Nat) (k4 : Int32 → Int32 → VS → Prop) (k40 : Int32 → Int32 → Int32 → Int32 → VS → Prop) (k62 : Int32 → Int32 → Int32 → Int32 → Int32 → VS → Prop) (Post : Int32 → VS → Prop) (x1 : Int32) (x2 : Int32) (x4 : Int32) (x5 : Int32) (t0 : Int32) (V : VS) : Prop := vX1_together_c104 cA a0 k4 k40 k62 Post x1 x2 x4 x5 (1 : Int32) t0 V
def vX1_together_l62 (cA : Nat → ClassId) (a0 : Nat) (k4 : Int32 → Int32 → VS → Prop) (k40 : Int32 → Int32 → Int32 → Int32 → VS → Prop) (Post : Int32 → VS → Prop) : Nat → Int32 → Int32 → Int32 → Int32 → Int32 → VS → Prop
  | 0, _, _, _, _, _, _ => False
  | n + 1, x1, x2, x3, x4, x5, V => (x4 ≤ x5 → (∀ v_30 : Int32, v_30 = x4 + (1 : Int32) → k40 x1 x2 x3 v_30 V)) ∧ (¬ (x4 ≤ x5) → ((((x2 >>> (x4 &&& (31 : Int32))) &&& (1 : Int32)) = 0 → (vX1_together_c99 cA a0 k4 k40 (vX1_together_l62 cA a0 k4 k40 Post n) Post x1 x2 x4 x5 x3 V)) ∧ (¬ (((x2 >>> (x4 &&& (31 : Int32))) &&& (1 : Int32)) = 0) → ((((x2 >>> (x5 &&& (31 : Int32))) &&& (1 : Int32)) = 0 → (vX1_together_c99 cA a0 k4 k40 (vX1_together_l62 cA a0 k4 k40 Post n) Post x1 x2 x4 x5 x3 V)) ∧ (¬ (((x2 >>> (x5 &&& (31 : Int32))) &&& (1 : Int32)) = 0) → (bO (vO V [1] a0) (fun o_37 => vX1_clashes cA a0 x4 x5 V (fun r_35 V_36 => (r_35 = 0 → (vX1_together_c99 cA a0 k4 k40 (vX1_together_l62 cA a0 k4 k40 Post n) Post x1 x2 x4 x5 x3 V_36)) ∧ (¬ (r_35 = 0) → (vX1_together_c104 cA a0 k4 k40 (vX1_together_l62 cA a0 k4 k40 Post n) Post x1 x2 x4 x5 (0 : Int32) x3 V_36))))))))))
def vX1_together_l40 (cA : Nat → ClassId) (a0 : Nat) (k4 : Int32 → Int32 → VS → Prop) (Post : Int32 → VS → Prop) : Nat → Int32 → Int32 → Int32 → Int32 → VS → Prop
  | 0, _, _, _, _, _ => False
  | n + 1, x1, x2, x3, x4, V => bO (gR V [1] a0 11) (fun p_15 => bO p_15 (fun n_17 => bO (gR V [3] n_17 1) (fun p_18 => bO p_18 (fun n_20 => bO (vO V [14] n_20) (fun o_23 => vJ2_size cA n_20 V (fun r_21 V_22 => (r_21 ≤ x4 → (vX1_together_c118 cA a0 k4 Post x1 x2 x3 V_22)) ∧ (¬ (r_21 ≤ x4) → ((x3 = 0 → (vX1_together_c118 cA a0 k4 Post x1 x2 x3 V_22)) ∧ (¬ (x3 = 0) → (∃ f, vX1_together_l62 cA a0 k4 (vX1_together_l40 cA a0 k4 Post n) Post f x1 x2 x3 x4 (0 : Int32) V_22))))))))))
def vX1_together_c36 (cA : Nat → ClassId) (a0 : Nat) (k4 : Int32 → Int32 → VS → Prop) (Post : Int32 → VS → Prop) (x1 : Int32) (x2 : Int32) (t0 : Int32) (V : VS) : Prop := ∃ f, vX1_together_l40 cA a0 k4 Post f x1 x2 t0 (0 : Int32) V
def vX1_together_l4 (cA : Nat → ClassId) (a0 : Nat) (Post : Int32 → VS → Prop) : Nat → Int32 → Int32 → VS → Prop
  | 0, _, _, _ => False
  | n + 1, x1, x2, V => bO (gR V [1] a0 11) (fun p_1 => bO p_1 (fun n_3 => bO (gR V [3] n_3 1) (fun p_4 => bO p_4 (fun n_6 => bO (vO V [14] n_6) (fun o_9 => vJ2_size cA n_6 V (fun r_7 V_8 => (((1 : Int32) <<< (r_7 &&& (31 : Int32))) ≤ x2 → (Post x1 V_8)) ∧ (¬ (((1 : Int32) <<< (r_7 &&& (31 : Int32))) ≤ x2) → (wJ18_bitCount x2 (fun r_12 => wJ18_bitCount x1 (fun r_13 => (r_12 ≤ r_13 → (vX1_together_c36 cA a0 (vX1_together_l4 cA a0 Post n) Post x1 x2 (0 : Int32) V_8)) ∧ (¬ (r_12 ≤ r_13) → (vX1_together_c36 cA a0 (vX1_together_l4 cA a0 Post n) Post x1 x2 (1 : Int32) V_8))))))))))))
def vX1_together (cA : Nat → ClassId) (a0 : Nat) (V : VS) (Post : Int32 → VS → Prop) : Prop := ∃ f, vX1_together_l4 cA a0 Post f (0 : Int32) (0 : Int32) V
abbrev rX1_together : Room := { frames := 8, cells := 0, slots := 0, locals := 183 }
theorem cdX1_together : yX1_together.cls = RX1 ∧ yX1_together.cls ≠ "java/lang/invoke/MethodHandle" ∧ yX1_together.cls ≠ "java/lang/invoke/VarHandle" ∧ (parseMethodDescriptor yX1_together.desc).map (fun d => d.parameters.length) = some 0 := by decide +kernel
set_option maxHeartbeats 4000000 in
set_option maxRecDepth 100000 in
theorem mvX1_together (l : Launch) {D : va_G} {cA : Nat → ClassId} {A : Nat → Prop} (a0 : Nat) (V : VS) (Post : Int32 → VS → Prop) (h : vX1_together cA a0 V Post) : Met l yX1_together (ws_ yX1_together cX1_together 6 (some (.int))) rX1_together (vPc [.ref a0] D cA A V) (va_Qi Post (vB D A) A) 0 0 A := by
  refine vstM (own := RX1) (by decide) rfl (Nat.le_of_ble_eq_true rfl) ?_
  intro p e s m args below meth c ls X hret hV hS hl
  obtain ⟨S, hK, hG, hA, hnm, hlocks⟩ := X
  have hx := S.1
  have hb := S.2.1
  have hl : lv_has ls 6 [(0, .ref a0)] := hl
  have C124 : ∀ (k4 : Int32 → Int32 → VS → Prop) (K4 : (∀ (x1 : Int32) (x2 : Int32) (V : VS) (H : Heap) (locs : List Loc) (ls : Array Slot), HV D A V H → va_S A s.heap H locs → lv_has ls 6 [(0, .ref a0), (1, .int x1), (2, .int x2)] → k4 x1 x2 V → W p l e rX1_together s m args below meth c H locs 0 0 (MQ below (va_Qi Post (vB D A) A) args s 0 0 A) (F0 m 4 ls []))), ∀ (x1 : Int32) (x2 : Int32) (V : VS) (H : Heap) (locs : List Loc) (ls : Array Slot), HV D A V H → va_S A s.heap H locs → lv_has ls 6 [(0, .ref a0), (1, .int x1), (2, .int x2)] → vX1_together_c124 cA a0 k4 Post x1 x2 V → W p l e rX1_together s m args below meth c H locs 0 0 (MQ below (va_Qi Post (vB D A) A) args s 0 0 A) (F0 m 124 ls []) := by
    intro k4 K4
    intro x1 x2 V H locs ls hV hS hl h
    unfold vX1_together_c124 at h
    obtain ⟨v_27, e_v_27⟩ : ∃ y : Int32, y = x2 + (1 : Int32) := ⟨_, rfl⟩
    replace h := h v_27 e_v_27
    refine lv_iinc (v := v_27) (lv' := [(2, .int v_27), (0, .ref a0), (1, .int x1)]) hx hb dX1_together_124 hl (k := 2) rfl (by rw [kc_1, e_v_27]) (by decide) rfl (fun ls hl => ?_)
    refine lv_goto (tgt := 4) hx hb dX1_together_127 (by decide) ?_
    exact K4 _ _ _ _ _ _ hV hS (lv_sub hl [1, 2, 0] rfl) h
  have C118 : ∀ (k4 : Int32 → Int32 → VS → Prop) (K4 : (∀ (x1 : Int32) (x2 : Int32) (V : VS) (H : Heap) (locs : List Loc) (ls : Array Slot), HV D A V H → va_S A s.heap H locs → lv_has ls 6 [(0, .ref a0), (1, .int x1), (2, .int x2)] → k4 x1 x2 V → W p l e rX1_together s m args below meth c H locs 0 0 (MQ below (va_Qi Post (vB D A) A) args s 0 0 A) (F0 m 4 ls []))), ∀ (x1 : Int32) (x2 : Int32) (x3 : Int32) (V : VS) (H : Heap) (locs : List Loc) (ls : Array Slot), HV D A V H → va_S A s.heap H locs → lv_has ls 6 [(0, .ref a0), (1, .int x1), (2, .int x2), (3, .int x3)] → vX1_together_c118 cA a0 k4 Post x1 x2 x3 V → W p l e rX1_together s m args below meth c H locs 0 0 (MQ below (va_Qi Post (vB D A) A) args s 0 0 A) (F0 m 118 ls []) := by
    intro k4 K4
    intro x1 x2 x3 V H locs ls hV hS hl h
    unfold vX1_together_c118 at h
    refine lv_iload_n hx hb dX1_together_118 rfl (lv_at hl 3 rfl) ?_
    refine lv_if_eq (tgt := 124) hx hb dX1_together_119 (by decide) (fun c_26 => ?_) (fun c_26 => ?_)
    · replace h := h.1 c_26
      exact C124 _ K4 _ _ _ _ _ _ hV hS (lv_sub hl [0, 1, 2] rfl) h
    · replace h := h.2 c_26
      refine lv_iload_n hx hb dX1_together_122 rfl (lv_at hl 2 rfl) ?_
      refine lv_istore_n (lv' := [(1, .int x2), (0, .ref a0), (2, .int x2), (3, .int x3)]) hx hb dX1_together_123 rfl hl (by decide) rfl (fun ls hl => ?_)
      exact C124 _ K4 _ _ _ _ _ _ hV hS (lv_sub hl [1, 0, 2] rfl) h
  have C104 : ∀ (k4 : Int32 → Int32 → VS → Prop) (K4 : (∀ (x1 : Int32) (x2 : Int32) (V : VS) (H : Heap) (locs : List Loc) (ls : Array Slot), HV D A V H → va_S A s.heap H locs → lv_has ls 6 [(0, .ref a0), (1, .int x1), (2, .int x2)] → k4 x1 x2 V → W p l e rX1_together s m args below meth c H locs 0 0 (MQ below (va_Qi Post (vB D A) A) args s 0 0 A) (F0 m 4 ls []))) (k40 : Int32 → Int32 → Int32 → Int32 → VS → Prop) (K40 : (∀ (x1 : Int32) (x2 : Int32) (x3 : Int32) (x4 : Int32) (V : VS) (H : Heap) (locs : List Loc) (ls : Array Slot), HV D A V H → va_S A s.heap H locs → lv_has ls 6 [(0, .ref a0), (1, .int x1), (2, .int x2), (3, .int x3), (4, .int x4)] → k40 x1 x2 x3 x4 V → W p l e rX1_together s m args below meth c H locs 0 0 (MQ below (va_Qi Post (vB D A) A) args s 0 0 A) (F0 m 40 ls []))) (k62 : Int32 → Int32 → Int32 → Int32 → Int32 → VS → Prop) (K62 : (∀ (x1 : Int32) (x2 : Int32) (x3 : Int32) (x4 : Int32) (x5 : Int32) (V : VS) (H : Heap) (locs : List Loc) (ls : Array Slot), HV D A V H → va_S A s.heap H locs → lv_has ls 6 [(0, .ref a0), (1, .int x1), (2, .int x2), (3, .int x3), (4, .int x4), (5, .int x5)] → k62 x1 x2 x3 x4 x5 V → W p l e rX1_together s m args below meth c H locs 0 0 (MQ below (va_Qi Post (vB D A) A) args s 0 0 A) (F0 m 62 ls []))), ∀ (x1 : Int32) (x2 : Int32) (x4 : Int32) (x5 : Int32) (t0 : Int32) (t1 : Int32) (V : VS) (H : Heap) (locs : List Loc) (ls : Array Slot), HV D A V H → va_S A s.heap H locs → lv_has ls 6 [(0, .ref a0), (1, .int x1), (2, .int x2), (4, .int x4), (5, .int x5)] → vX1_together_c104 cA a0 k4 k40 k62 Post x1 x2 x4 x5 t0 t1 V → W p l e rX1_together s m args below meth c H locs 0 0 (MQ below (va_Qi Post (vB D A) A) args s 0 0 A) (F0 m 104 ls [.int t0, .int t1]) := by
    intro k4 K4 k40 K40 k62 K62
    intro x1 x2 x4 x5 t0 t1 V H locs ls hV hS hl h
    unfold vX1_together_c104 at h
    refine lv_iand hx hb dX1_together_104 ?_
    refine lv_topi (fun v_32 e_v_32 => ?_)
    replace h := h v_32 e_v_32
    refine lv_istore_n (lv' := [(3, .int v_32), (0, .ref a0), (1, .int x1), (2, .int x2), (4, .int x4), (5, .int x5)]) hx hb dX1_together_105 rfl hl (by decide) rfl (fun ls hl => ?_)
    obtain ⟨v_33, e_v_33⟩ : ∃ y : Int32, y = x5 + (1 : Int32) := ⟨_, rfl⟩
    replace h := h v_33 e_v_33
    refine lv_iinc (v := v_33) (lv' := [(5, .int v_33), (3, .int v_32), (0, .ref a0), (1, .int x1), (2, .int x2), (4, .int x4)]) hx hb dX1_together_106 hl (k := 5) rfl (by rw [kc_1, e_v_33]) (by decide) rfl (fun ls hl => ?_)
    refine lv_goto (tgt := 62) hx hb dX1_together_109 (by decide) ?_
    exact K62 _ _ _ _ _ _ _ _ _ hV hS (lv_sub hl [2, 3, 4, 1, 5, 0] rfl) h
  have C99 : ∀ (k4 : Int32 → Int32 → VS → Prop) (K4 : (∀ (x1 : Int32) (x2 : Int32) (V : VS) (H : Heap) (locs : List Loc) (ls : Array Slot), HV D A V H → va_S A s.heap H locs → lv_has ls 6 [(0, .ref a0), (1, .int x1), (2, .int x2)] → k4 x1 x2 V → W p l e rX1_together s m args below meth c H locs 0 0 (MQ below (va_Qi Post (vB D A) A) args s 0 0 A) (F0 m 4 ls []))) (k40 : Int32 → Int32 → Int32 → Int32 → VS → Prop) (K40 : (∀ (x1 : Int32) (x2 : Int32) (x3 : Int32) (x4 : Int32) (V : VS) (H : Heap) (locs : List Loc) (ls : Array Slot), HV D A V H → va_S A s.heap H locs → lv_has ls 6 [(0, .ref a0), (1, .int x1), (2, .int x2), (3, .int x3), (4, .int x4)] → k40 x1 x2 x3 x4 V → W p l e rX1_together s m args below meth c H locs 0 0 (MQ below (va_Qi Post (vB D A) A) args s 0 0 A) (F0 m 40 ls []))) (k62 : Int32 → Int32 → Int32 → Int32 → Int32 → VS → Prop) (K62 : (∀ (x1 : Int32) (x2 : Int32) (x3 : Int32) (x4 : Int32) (x5 : Int32) (V : VS) (H : Heap) (locs : List Loc) (ls : Array Slot), HV D A V H → va_S A s.heap H locs → lv_has ls 6 [(0, .ref a0), (1, .int x1), (2, .int x2), (3, .int x3), (4, .int x4), (5, .int x5)] → k62 x1 x2 x3 x4 x5 V → W p l e rX1_together s m args below meth c H locs 0 0 (MQ below (va_Qi Post (vB D A) A) args s 0 0 A) (F0 m 62 ls []))), ∀ (x1 : Int32) (x2 : Int32) (x4 : Int32) (x5 : Int32) (t0 : Int32) (V : VS) (H : Heap) (locs : List Loc) (ls : Array Slot), HV D A V H → va_S A s.heap H locs → lv_has ls 6 [(0, .ref a0), (1, .int x1), (2, .int x2), (4, .int x4), (5, .int x5)] → vX1_together_c99 cA a0 k4 k40 k62 Post x1 x2 x4 x5 t0 V → W p l e rX1_together s m args below meth c H locs 0 0 (MQ below (va_Qi Post (vB D A) A) args s 0 0 A) (F0 m 99 ls [.int t0]) := by
    intro k4 K4 k40 K40 k62 K62
    intro x1 x2 x4 x5 t0 V H locs ls hV hS hl h
    unfold vX1_together_c99 at h
    refine lv_iconst hx hb dX1_together_99 kc_1 ?_
    refine lv_goto (tgt := 104) hx hb dX1_together_100 (by decide) ?_
    exact C104 _ K4 _ K40 _ K62 _ _ _ _ _ _ _ _ _ _ hV hS (lv_sub hl [0, 1, 2, 3, 4] rfl) h
  have L62 : ∀ (k4 : Int32 → Int32 → VS → Prop) (K4 : (∀ (x1 : Int32) (x2 : Int32) (V : VS) (H : Heap) (locs : List Loc) (ls : Array Slot), HV D A V H → va_S A s.heap H locs → lv_has ls 6 [(0, .ref a0), (1, .int x1), (2, .int x2)] → k4 x1 x2 V → W p l e rX1_together s m args below meth c H locs 0 0 (MQ below (va_Qi Post (vB D A) A) args s 0 0 A) (F0 m 4 ls []))) (k40 : Int32 → Int32 → Int32 → Int32 → VS → Prop) (K40 : (∀ (x1 : Int32) (x2 : Int32) (x3 : Int32) (x4 : Int32) (V : VS) (H : Heap) (locs : List Loc) (ls : Array Slot), HV D A V H → va_S A s.heap H locs → lv_has ls 6 [(0, .ref a0), (1, .int x1), (2, .int x2), (3, .int x3), (4, .int x4)] → k40 x1 x2 x3 x4 V → W p l e rX1_together s m args below meth c H locs 0 0 (MQ below (va_Qi Post (vB D A) A) args s 0 0 A) (F0 m 40 ls []))), ∀ (n : Nat) (x1 : Int32) (x2 : Int32) (x3 : Int32) (x4 : Int32) (x5 : Int32) (V : VS) (H : Heap) (locs : List Loc) (ls : Array Slot), HV D A V H → va_S A s.heap H locs → lv_has ls 6 [(0, .ref a0), (1, .int x1), (2, .int x2), (3, .int x3), (4, .int x4), (5, .int x5)] → vX1_together_l62 cA a0 k4 k40 Post n x1 x2 x3 x4 x5 V → W p l e rX1_together s m args below meth c H locs 0 0 (MQ below (va_Qi Post (vB D A) A) args s 0 0 A) (F0 m 62 ls []) := by
    intro k4 K4 k40 K40
    intro n
    induction n with
    | zero => intro x1 x2 x3 x4 x5 V H locs ls hV hS hl h; rw [vX1_together_l62] at h; exact h.elim
    | succ n ih =>
      intro x1 x2 x3 x4 x5 V H locs ls hV hS hl h
      rw [vX1_together_l62] at h
      refine lv_iload hx hb dX1_together_62 (lv_at hl 5 rfl) ?_
      refine lv_iload hx hb dX1_together_64 (lv_at hl 4 rfl) ?_
      refine lv_icmp_ge (tgt := 112) hx hb dX1_together_66 (by decide) (fun c_29 => ?_) (fun c_29 => ?_)
      · replace h := h.1 c_29
        obtain ⟨v_30, e_v_30⟩ : ∃ y : Int32, y = x4 + (1 : Int32) := ⟨_, rfl⟩
        replace h := h v_30 e_v_30
        refine lv_iinc (v := v_30) (lv' := [(4, .int v_30), (0, .ref a0), (1, .int x1), (2, .int x2), (3, .int x3), (5, .int x5)]) hx hb dX1_together_112 hl (k := 4) rfl (by rw [kc_1, e_v_30]) (by decide) rfl (fun ls hl => ?_)
        refine lv_goto (tgt := 40) hx hb dX1_together_115 (by decide) ?_
        exact K40 _ _ _ _ _ _ _ _ hV hS (lv_sub hl [1, 2, 3, 4, 0] rfl) h
      · replace h := h.2 c_29
        refine lv_iload_n hx hb dX1_together_69 rfl (lv_at hl 3 rfl) ?_
        refine lv_iload_n hx hb dX1_together_70 rfl (lv_at hl 2 rfl) ?_
        refine lv_iload hx hb dX1_together_71 (lv_at hl 4 rfl) ?_
        refine lv_ishr hx hb dX1_together_73 ?_
        refine lv_iconst hx hb dX1_together_74 kc_1 ?_
        refine lv_iand hx hb dX1_together_75 ?_
        refine lv_if_eq (tgt := 99) hx hb dX1_together_76 (by decide) (fun c_31 => ?_) (fun c_31 => ?_)
        · replace h := h.1 c_31
          exact C99 _ K4 _ K40 _ ih _ _ _ _ _ _ _ _ _ hV hS (lv_sub hl [0, 1, 2, 4, 5] rfl) h
        · replace h := h.2 c_31
          refine lv_iload_n hx hb dX1_together_79 rfl (lv_at hl 2 rfl) ?_
          refine lv_iload hx hb dX1_together_80 (lv_at hl 5 rfl) ?_
          refine lv_ishr hx hb dX1_together_82 ?_
          refine lv_iconst hx hb dX1_together_83 kc_1 ?_
          refine lv_iand hx hb dX1_together_84 ?_
          refine lv_if_eq (tgt := 99) hx hb dX1_together_85 (by decide) (fun c_34 => ?_) (fun c_34 => ?_)
          · replace h := h.1 c_34
            exact C99 _ K4 _ K40 _ ih _ _ _ _ _ _ _ _ _ hV hS (lv_sub hl [0, 1, 2, 4, 5] rfl) h
          · replace h := h.2 c_34
            refine lv_aload_n hx hb dX1_together_88 rfl (lv_at hl 0 rfl) ?_
            refine lv_iload hx hb dX1_together_89 (lv_at hl 4 rfl) ?_
            refine lv_iload hx hb dX1_together_91 (lv_at hl 5 rfl) ?_
            obtain ⟨o_37, e_38, h⟩ := bO_e h
            refine vk_i (vr_V (As := [.int x4, .int x5]) (rest := [.int x3]) S hK hG hA hV hS e_38 rfl (mvX1_clashes l a0 x4 x5 V _ h) (cwV 2 S.2.2.2.2 (lw_V q1181 q1183 qs50 q139 q1184) rfl rfl rfl cdX1_clashes ⟨Nat.le_of_ble_eq_true rfl, Nat.le_of_ble_eq_true rfl⟩) rfl hl.1 (Nat.le_of_ble_eq_true rfl) dX1_together_93 ⟨Nat.le_refl _, Nat.le_refl _⟩) hS (fun r_35 V_36 H locs h hV hS => ?_)
            refine lv_if_ne (tgt := 103) hx hb dX1_together_96 (by decide) (fun c_39 => ?_) (fun c_39 => ?_)
            · replace h := h.2 c_39
              refine lv_iconst hx hb dX1_together_103 kc_0 ?_
              exact C104 _ K4 _ K40 _ ih _ _ _ _ _ _ _ _ _ _ hV hS (lv_sub hl [0, 1, 2, 4, 5] rfl) h
            · replace h := h.1 c_39
              exact C99 _ K4 _ K40 _ ih _ _ _ _ _ _ _ _ _ hV hS (lv_sub hl [0, 1, 2, 4, 5] rfl) h
  have L40 : ∀ (k4 : Int32 → Int32 → VS → Prop) (K4 : (∀ (x1 : Int32) (x2 : Int32) (V : VS) (H : Heap) (locs : List Loc) (ls : Array Slot), HV D A V H → va_S A s.heap H locs → lv_has ls 6 [(0, .ref a0), (1, .int x1), (2, .int x2)] → k4 x1 x2 V → W p l e rX1_together s m args below meth c H locs 0 0 (MQ below (va_Qi Post (vB D A) A) args s 0 0 A) (F0 m 4 ls []))), ∀ (n : Nat) (x1 : Int32) (x2 : Int32) (x3 : Int32) (x4 : Int32) (V : VS) (H : Heap) (locs : List Loc) (ls : Array Slot), HV D A V H → va_S A s.heap H locs → lv_has ls 6 [(0, .ref a0), (1, .int x1), (2, .int x2), (3, .int x3), (4, .int x4)] → vX1_together_l40 cA a0 k4 Post n x1 x2 x3 x4 V → W p l e rX1_together s m args below meth c H locs 0 0 (MQ below (va_Qi Post (vB D A) A) args s 0 0 A) (F0 m 40 ls []) := by
    intro k4 K4
    intro n
    induction n with
    | zero => intro x1 x2 x3 x4 V H locs ls hV hS hl h; rw [vX1_together_l40] at h; exact h.elim
    | succ n ih =>
      intro x1 x2 x3 x4 V H locs ls hV hS hl h
      rw [vX1_together_l40] at h
      refine lv_iload hx hb dX1_together_40 (lv_at hl 4 rfl) ?_
      refine lv_aload_n hx hb dX1_together_42 rfl (lv_at hl 0 rfl) ?_
      obtain ⟨p_15, e_16, h⟩ := bO_e h
      refine vg_r S hK hV fX1_49 e_16 dX1_together_43 ?_
      obtain ⟨n_17, z_n_17, h9⟩ := bO_e h
      clear h; subst z_n_17; have h := h9; clear h9
      obtain ⟨p_18, e_19, h⟩ := bO_e h
      refine vg_r S hK hV fX1_115 e_19 dX1_together_46 ?_
      obtain ⟨n_20, z_n_20, h9⟩ := bO_e h
      clear h; subst z_n_20; have h := h9; clear h9
      obtain ⟨o_23, e_24, h⟩ := bO_e h
      refine vk_i (vr_V (As := []) (rest := [.int x4]) S hK hG hA hV hS e_24 rfl (mvJ2_size l n_20 V _ h) (cwV 0 S.2.2.2.2 (lw_V q972 q591 q592 q144 q593) rfl rfl rfl cdJ2_size ⟨Nat.le_of_ble_eq_true rfl, Nat.le_of_ble_eq_true rfl⟩) rfl hl.1 (Nat.le_of_ble_eq_true rfl) dX1_together_49 ⟨Nat.le_refl _, Nat.le_refl _⟩) hS (fun r_21 V_22 H locs h hV hS => ?_)
      refine lv_icmp_ge (tgt := 118) hx hb dX1_together_52 (by decide) (fun c_25 => ?_) (fun c_25 => ?_)
      · replace h := h.1 c_25
        exact C118 _ K4 _ _ _ _ _ _ _ hV hS (lv_sub hl [0, 1, 2, 3] rfl) h
      · replace h := h.2 c_25
        refine lv_iload_n hx hb dX1_together_55 rfl (lv_at hl 3 rfl) ?_
        refine lv_if_eq (tgt := 118) hx hb dX1_together_56 (by decide) (fun c_28 => ?_) (fun c_28 => ?_)
        · replace h := h.1 c_28
          exact C118 _ K4 _ _ _ _ _ _ _ hV hS (lv_sub hl [0, 1, 2, 3] rfl) h
        · replace h := h.2 c_28
          refine lv_iconst hx hb dX1_together_59 kc_0 ?_
          refine lv_istore (lv' := [(5, .int (0 : Int32)), (0, .ref a0), (1, .int x1), (2, .int x2), (3, .int x3), (4, .int x4)]) hx hb dX1_together_60 hl (by decide) rfl (fun ls hl => ?_)
          obtain ⟨f, h⟩ := h
          exact L62 _ K4 _ ih f _ _ _ _ _ _ _ _ _ hV hS (lv_sub hl [1, 2, 3, 4, 5, 0] rfl) h
  have C36 : ∀ (k4 : Int32 → Int32 → VS → Prop) (K4 : (∀ (x1 : Int32) (x2 : Int32) (V : VS) (H : Heap) (locs : List Loc) (ls : Array Slot), HV D A V H → va_S A s.heap H locs → lv_has ls 6 [(0, .ref a0), (1, .int x1), (2, .int x2)] → k4 x1 x2 V → W p l e rX1_together s m args below meth c H locs 0 0 (MQ below (va_Qi Post (vB D A) A) args s 0 0 A) (F0 m 4 ls []))), ∀ (x1 : Int32) (x2 : Int32) (t0 : Int32) (V : VS) (H : Heap) (locs : List Loc) (ls : Array Slot), HV D A V H → va_S A s.heap H locs → lv_has ls 6 [(0, .ref a0), (1, .int x1), (2, .int x2)] → vX1_together_c36 cA a0 k4 Post x1 x2 t0 V → W p l e rX1_together s m args below meth c H locs 0 0 (MQ below (va_Qi Post (vB D A) A) args s 0 0 A) (F0 m 36 ls [.int t0]) := by
    intro k4 K4
    intro x1 x2 t0 V H locs ls hV hS hl h
    unfold vX1_together_c36 at h
    refine lv_istore_n (lv' := [(3, .int t0), (0, .ref a0), (1, .int x1), (2, .int x2)]) hx hb dX1_together_36 rfl hl (by decide) rfl (fun ls hl => ?_)
    refine lv_iconst hx hb dX1_together_37 kc_0 ?_
    refine lv_istore (lv' := [(4, .int (0 : Int32)), (3, .int t0), (0, .ref a0), (1, .int x1), (2, .int x2)]) hx hb dX1_together_38 hl (by decide) rfl (fun ls hl => ?_)
    obtain ⟨f, h⟩ := h
    exact L40 _ K4 f _ _ _ _ _ _ _ _ hV hS (lv_sub hl [2, 3, 4, 1, 0] rfl) h
  have L4 : ∀ (n : Nat) (x1 : Int32) (x2 : Int32) (V : VS) (H : Heap) (locs : List Loc) (ls : Array Slot), HV D A V H → va_S A s.heap H locs → lv_has ls 6 [(0, .ref a0), (1, .int x1), (2, .int x2)] → vX1_together_l4 cA a0 Post n x1 x2 V → W p l e rX1_together s m args below meth c H locs 0 0 (MQ below (va_Qi Post (vB D A) A) args s 0 0 A) (F0 m 4 ls []) := by
    intro n
    induction n with
    | zero => intro x1 x2 V H locs ls hV hS hl h; rw [vX1_together_l4] at h; exact h.elim
    | succ n ih =>
      intro x1 x2 V H locs ls hV hS hl h
      rw [vX1_together_l4] at h
      refine lv_iload_n hx hb dX1_together_4 rfl (lv_at hl 2 rfl) ?_
      refine lv_iconst hx hb dX1_together_5 kc_1 ?_
      refine lv_aload_n hx hb dX1_together_6 rfl (lv_at hl 0 rfl) ?_
      obtain ⟨p_1, e_2, h⟩ := bO_e h
      refine vg_r S hK hV fX1_49 e_2 dX1_together_7 ?_
      obtain ⟨n_3, z_n_3, h9⟩ := bO_e h
      clear h; subst z_n_3; have h := h9; clear h9
      obtain ⟨p_4, e_5, h⟩ := bO_e h
      refine vg_r S hK hV fX1_115 e_5 dX1_together_10 ?_
      obtain ⟨n_6, z_n_6, h9⟩ := bO_e h
      clear h; subst z_n_6; have h := h9; clear h9
      obtain ⟨o_9, e_10, h⟩ := bO_e h
      refine vk_i (vr_V (As := []) (rest := [.int (1 : Int32), .int x2]) S hK hG hA hV hS e_10 rfl (mvJ2_size l n_6 V _ h) (cwV 0 S.2.2.2.2 (lw_V q972 q591 q592 q144 q593) rfl rfl rfl cdJ2_size ⟨Nat.le_of_ble_eq_true rfl, Nat.le_of_ble_eq_true rfl⟩) rfl hl.1 (Nat.le_of_ble_eq_true rfl) dX1_together_13 ⟨Nat.le_refl _, Nat.le_refl _⟩) hS (fun r_7 V_8 H locs h hV hS => ?_)
      refine lv_ishl hx hb dX1_together_16 ?_
      refine lv_icmp_ge (tgt := 130) hx hb dX1_together_17 (by decide) (fun c_11 => ?_) (fun c_11 => ?_)
      · replace h := h.1 c_11
        refine lv_iload_n hx hb dX1_together_130 rfl (lv_at hl 1 rfl) ?_
        exact ve_i S hlocks hret hV hS h rfl (Nat.le_refl _) (Nat.le_refl _) dX1_together_131
      · replace h := h.2 c_11
        refine lv_iload_n hx hb dX1_together_20 rfl (lv_at hl 2 rfl) ?_
        refine sc_i S (As := [.int x2]) (rest := []) (mtJ18_bitCount l x2 _ h) (va_cwS 1 S.2.2.2.2 (lw_S q1189 q1190 q174 q1191) rfl rfl rfl cdJ18_bitCount ⟨Nat.le_of_ble_eq_true rfl, Nat.le_of_ble_eq_true rfl⟩) rfl rfl hl.1 (Nat.le_of_ble_eq_true rfl) dX1_together_21 ⟨Nat.le_refl _, Nat.le_refl _⟩ (fun r_12 h => ?_)
        refine lv_iload_n hx hb dX1_together_24 rfl (lv_at hl 1 rfl) ?_
        refine sc_i S (As := [.int x1]) (rest := [.int r_12]) (mtJ18_bitCount l x1 _ h) (va_cwS 1 S.2.2.2.2 (lw_S q1189 q1190 q174 q1191) rfl rfl rfl cdJ18_bitCount ⟨Nat.le_of_ble_eq_true rfl, Nat.le_of_ble_eq_true rfl⟩) rfl rfl hl.1 (Nat.le_of_ble_eq_true rfl) dX1_together_25 ⟨Nat.le_refl _, Nat.le_refl _⟩ (fun r_13 h => ?_)
        refine lv_icmp_le (tgt := 35) hx hb dX1_together_28 (by decide) (fun c_14 => ?_) (fun c_14 => ?_)
        · replace h := h.1 c_14
          refine lv_iconst hx hb dX1_together_35 kc_0 ?_
          exact C36 _ ih _ _ _ _ _ _ _ hV hS (lv_sub hl [0, 1, 2] rfl) h
        · replace h := h.2 c_14
          refine lv_iconst hx hb dX1_together_31 kc_1 ?_
          refine lv_goto (tgt := 36) hx hb dX1_together_32 (by decide) ?_
          exact C36 _ ih _ _ _ _ _ _ _ hV hS (lv_sub hl [0, 1, 2] rfl) h
  unfold vX1_together at h
  refine lv_iconst hx hb dX1_together_0 kc_0 ?_
  refine lv_istore_n (lv' := [(1, .int (0 : Int32)), (0, .ref a0)]) hx hb dX1_together_1 rfl hl (by decide) rfl (fun ls hl => ?_)
  refine lv_iconst hx hb dX1_together_2 kc_0 ?_
  refine lv_istore_n (lv' := [(2, .int (0 : Int32)), (1, .int (0 : Int32)), (0, .ref a0)]) hx hb dX1_together_3 rfl hl (by decide) rfl (fun ls hl => ?_)
  obtain ⟨f, h⟩ := h
  exact L4 f _ _ _ _ _ _ hV hS (lv_sub hl [2, 1, 0] rfl) h
def vX1_lies_c121 (cA : Nat → ClassId) (a0 : Nat) (a1 : Int32) (k26 : Int32 → Int32 → VS → Prop) (k49 : Int32 → Int32 → Int32 → Int32 → Int32 → VS → Prop) (k77 : Int32 → Int32 → Int32 → Int32 → Int32 → Int32 → Int32 → VS → Prop) (Post : Int32 → VS → Prop) (x2 : Int32) (x3 : Int32) (x4 : Int32) (x5 : Int32) (x6 : Int32) (x8 : Int32) (t0 : Int32) (t1 : Int32) (V : VS) : Prop := ∀ v_57 : Int32, v_57 = t1 + t0 → ∀ v_58 : Int32, v_58 = x8 + (1 : Int32) → k77 x2 x3 x4 x5 x6 v_57 v_58 V
def vX1_lies_c120 (cA : Nat → ClassId) (a0 : Nat) (a1 : Int32) (k26 : Int32 → Int32 → VS → Prop) (k49 : Int32 → Int32 → Int32 → Int32 → Int32 → VS → Prop) (k77 : Int32 → Int32 → Int32 → Int32 → Int32 → Int32 → Int32 → VS → Prop) (Post : Int32 → VS → Prop) (x2 : Int32) (x3 : Int32) (x4 : Int32) (x5 : Int32) (x6 : Int32) (x8 : Int32) (t0 : Int32) (V : VS) : Prop := vX1_lies_c121 cA a0 a1 k26 k49 k77 Post x2 x3 x4 x5 x6 x8 (0 : Int32) t0 V
def vX1_lies_l77 (cA : Nat → ClassId) (a0 : Nat) (a1 : Int32) (k26 : Int32 → Int32 → VS → Prop) (k49 : Int32 → Int32 → Int32 → Int32 → Int32 → VS → Prop) (Post : Int32 → VS → Prop) : Nat → Int32 → Int32 → Int32 → Int32 → Int32 → Int32 → Int32 → VS → Prop
  | 0, _, _, _, _, _, _, _, _ => False
  | n + 1, x2, x3, x4, x5, x6, x7, x8, V => bO (gR V [1] a0 11) (fun p_42 => bO p_42 (fun n_44 => bO (gR V [3] n_44 1) (fun p_45 => bO p_45 (fun n_47 => bO (vO V [14] n_47) (fun o_50 => vJ2_size cA n_47 V (fun r_48 V_49 => (r_48 ≤ x8 → (∀ v_53 : Int32, v_53 = x4 + x7 → ∀ v_54 : Int32, v_54 = (if x5 < x7 then x7 else x5) → ∀ v_55 : Int32, v_55 = x6 + (1 : Int32) → k49 x2 x3 v_53 v_54 v_55 V_49)) ∧ (¬ (r_48 ≤ x8) → ((((a1 >>> (x8 &&& (31 : Int32))) &&& (1 : Int32)) = (1 : Int32) → (bO (vO V_49 [1] a0) (fun o_61 => vX1_storyOf cA a0 x8 x3 V_49 (fun r_59 V_60 => (r_59 = x6 → (vX1_lies_c121 cA a0 a1 k26 k49 (vX1_lies_l77 cA a0 a1 k26 k49 Post n) Post x2 x3 x4 x5 x6 x8 (1 : Int32) x7 V_60)) ∧ (¬ (r_59 = x6) → (vX1_lies_c120 cA a0 a1 k26 k49 (vX1_lies_l77 cA a0 a1 k26 k49 Post n) Post x2 x3 x4 x5 x6 x8 x7 V_60)))))) ∧ (¬ (((a1 >>> (x8 &&& (31 : Int32))) &&& (1 : Int32)) = (1 : Int32)) → (vX1_lies_c120 cA a0 a1 k26 k49 (vX1_lies_l77 cA a0 a1 k26 k49 Post n) Post x2 x3 x4 x5 x6 x8 x7 V_49))))))))))
def vX1_lies_l49 (cA : Nat → ClassId) (a0 : Nat) (a1 : Int32) (k26 : Int32 → Int32 → VS → Prop) (Post : Int32 → VS → Prop) : Nat → Int32 → Int32 → Int32 → Int32 → Int32 → VS → Prop
  | 0, _, _, _, _, _, _ => False
  | n + 1, x2, x3, x4, x5, x6, V => bO (gR V [1] a0 11) (fun p_24 => bO p_24 (fun n_26 => bO (gR V [3] n_26 0) (fun p_27 => bO p_27 (fun n_29 => bO (vO V [14] n_29) (fun o_32 => vJ2_get cA n_29 x3 V (fun p_30 V_31 => bO p_30 (fun n_34 => bO (vO V_31 [5] n_34) (fun o_35 => bO (gI V_31 [5] n_34 1) (fun g_37 => (g_37 ≤ x6 → (∀ v_40 : Int32, v_40 = x2 + (x4 - x5) → ∀ v_41 : Int32, v_41 = x3 + (1 : Int32) → k26 v_40 v_41 V_31)) ∧ (¬ (g_37 ≤ x6) → (∃ f, vX1_lies_l77 cA a0 a1 k26 (vX1_lies_l49 cA a0 a1 k26 Post n) Post f x2 x3 x4 x5 x6 (0 : Int32) (0 : Int32) V_31)))))))))))
def vX1_lies_l26 (cA : Nat → ClassId) (a0 : Nat) (a1 : Int32) (Post : Int32 → VS → Prop) : Nat → Int32 → Int32 → VS → Prop
  | 0, _, _, _ => False
  | n + 1, x2, x3, V => bO (gR V [1] a0 11) (fun p_13 => bO p_13 (fun n_15 => bO (gR V [3] n_15 0) (fun p_16 => bO p_16 (fun n_18 => bO (vO V [14] n_18) (fun o_21 => vJ2_size cA n_18 V (fun r_19 V_20 => (r_19 ≤ x3 → (Post x2 V_20)) ∧ (¬ (r_19 ≤ x3) → (∃ f, vX1_lies_l49 cA a0 a1 (vX1_lies_l26 cA a0 a1 Post n) Post f x2 x3 (0 : Int32) (0 : Int32) (0 : Int32) V_20))))))))
def vX1_lies (cA : Nat → ClassId) (a0 : Nat) (a1 : Int32) (V : VS) (Post : Int32 → VS → Prop) : Prop := (a1 < 0 → (Post (-1 : Int32) V)) ∧ (¬ (a1 < 0) → (bO (gR V [1] a0 11) (fun p_2 => bO p_2 (fun n_4 => bO (gR V [3] n_4 1) (fun p_5 => bO p_5 (fun n_7 => bO (vO V [14] n_7) (fun o_10 => vJ2_size cA n_7 V (fun r_8 V_9 => (a1 < ((1 : Int32) <<< (r_8 &&& (31 : Int32))) → (∃ f, vX1_lies_l26 cA a0 a1 Post f (0 : Int32) (0 : Int32) V_9)) ∧ (¬ (a1 < ((1 : Int32) <<< (r_8 &&& (31 : Int32)))) → (Post (-1 : Int32) V_9))))))))))
abbrev rX1_lies : Room := { frames := 7, cells := 0, slots := 0, locals := 159 }
theorem cdX1_lies : yX1_lies.cls = RX1 ∧ yX1_lies.cls ≠ "java/lang/invoke/MethodHandle" ∧ yX1_lies.cls ≠ "java/lang/invoke/VarHandle" ∧ (parseMethodDescriptor yX1_lies.desc).map (fun d => d.parameters.length) = some 1 := by decide +kernel
set_option maxHeartbeats 4000000 in
set_option maxRecDepth 100000 in
theorem mvX1_lies (l : Launch) {D : va_G} {cA : Nat → ClassId} {A : Nat → Prop} (a0 : Nat) (a1 : Int32) (V : VS) (Post : Int32 → VS → Prop) (h : vX1_lies cA a0 a1 V Post) : Met l yX1_lies (ws_ yX1_lies cX1_lies 9 (some (.int))) rX1_lies (vPc [.ref a0, .int a1] D cA A V) (va_Qi Post (vB D A) A) 0 0 A := by
  refine vstM (own := RX1) (by decide) rfl (Nat.le_of_ble_eq_true rfl) ?_
  intro p e s m args below meth c ls X hret hV hS hl
  obtain ⟨S, hK, hG, hA, hnm, hlocks⟩ := X
  have hx := S.1
  have hb := S.2.1
  have hl : lv_has ls 9 [(0, .ref a0), (1, .int a1)] := hl
  have C121 : ∀ (k26 : Int32 → Int32 → VS → Prop) (K26 : (∀ (x2 : Int32) (x3 : Int32) (V : VS) (H : Heap) (locs : List Loc) (ls : Array Slot), HV D A V H → va_S A s.heap H locs → lv_has ls 9 [(0, .ref a0), (1, .int a1), (2, .int x2), (3, .int x3)] → k26 x2 x3 V → W p l e rX1_lies s m args below meth c H locs 0 0 (MQ below (va_Qi Post (vB D A) A) args s 0 0 A) (F0 m 26 ls []))) (k49 : Int32 → Int32 → Int32 → Int32 → Int32 → VS → Prop) (K49 : (∀ (x2 : Int32) (x3 : Int32) (x4 : Int32) (x5 : Int32) (x6 : Int32) (V : VS) (H : Heap) (locs : List Loc) (ls : Array Slot), HV D A V H → va_S A s.heap H locs → lv_has ls 9 [(0, .ref a0), (1, .int a1), (2, .int x2), (3, .int x3), (4, .int x4), (5, .int x5), (6, .int x6)] → k49 x2 x3 x4 x5 x6 V → W p l e rX1_lies s m args below meth c H locs 0 0 (MQ below (va_Qi Post (vB D A) A) args s 0 0 A) (F0 m 49 ls []))) (k77 : Int32 → Int32 → Int32 → Int32 → Int32 → Int32 → Int32 → VS → Prop) (K77 : (∀ (x2 : Int32) (x3 : Int32) (x4 : Int32) (x5 : Int32) (x6 : Int32) (x7 : Int32) (x8 : Int32) (V : VS) (H : Heap) (locs : List Loc) (ls : Array Slot), HV D A V H → va_S A s.heap H locs → lv_has ls 9 [(0, .ref a0), (1, .int a1), (2, .int x2), (3, .int x3), (4, .int x4), (5, .int x5), (6, .int x6), (7, .int x7), (8, .int x8)] → k77 x2 x3 x4 x5 x6 x7 x8 V → W p l e rX1_lies s m args below meth c H locs 0 0 (MQ below (va_Qi Post (vB D A) A) args s 0 0 A) (F0 m 77 ls []))), ∀ (x2 : Int32) (x3 : Int32) (x4 : Int32) (x5 : Int32) (x6 : Int32) (x8 : Int32) (t0 : Int32) (t1 : Int32) (V : VS) (H : Heap) (locs : List Loc) (ls : Array Slot), HV D A V H → va_S A s.heap H locs → lv_has ls 9 [(0, .ref a0), (1, .int a1), (2, .int x2), (3, .int x3), (4, .int x4), (5, .int x5), (6, .int x6), (8, .int x8)] → vX1_lies_c121 cA a0 a1 k26 k49 k77 Post x2 x3 x4 x5 x6 x8 t0 t1 V → W p l e rX1_lies s m args below meth c H locs 0 0 (MQ below (va_Qi Post (vB D A) A) args s 0 0 A) (F0 m 121 ls [.int t0, .int t1]) := by
    intro k26 K26 k49 K49 k77 K77
    intro x2 x3 x4 x5 x6 x8 t0 t1 V H locs ls hV hS hl h
    unfold vX1_lies_c121 at h
    refine lv_iadd hx hb dX1_lies_121 ?_
    refine lv_topi (fun v_57 e_v_57 => ?_)
    replace h := h v_57 e_v_57
    refine lv_istore (lv' := [(7, .int v_57), (0, .ref a0), (1, .int a1), (2, .int x2), (3, .int x3), (4, .int x4), (5, .int x5), (6, .int x6), (8, .int x8)]) hx hb dX1_lies_122 hl (by decide) rfl (fun ls hl => ?_)
    obtain ⟨v_58, e_v_58⟩ : ∃ y : Int32, y = x8 + (1 : Int32) := ⟨_, rfl⟩
    replace h := h v_58 e_v_58
    refine lv_iinc (v := v_58) (lv' := [(8, .int v_58), (7, .int v_57), (0, .ref a0), (1, .int a1), (2, .int x2), (3, .int x3), (4, .int x4), (5, .int x5), (6, .int x6)]) hx hb dX1_lies_124 hl (k := 8) rfl (by rw [kc_1, e_v_58]) (by decide) rfl (fun ls hl => ?_)
    refine lv_goto (tgt := 77) hx hb dX1_lies_127 (by decide) ?_
    exact K77 _ _ _ _ _ _ _ _ _ _ _ hV hS (lv_sub hl [2, 3, 4, 5, 6, 7, 8, 1, 0] rfl) h
  have C120 : ∀ (k26 : Int32 → Int32 → VS → Prop) (K26 : (∀ (x2 : Int32) (x3 : Int32) (V : VS) (H : Heap) (locs : List Loc) (ls : Array Slot), HV D A V H → va_S A s.heap H locs → lv_has ls 9 [(0, .ref a0), (1, .int a1), (2, .int x2), (3, .int x3)] → k26 x2 x3 V → W p l e rX1_lies s m args below meth c H locs 0 0 (MQ below (va_Qi Post (vB D A) A) args s 0 0 A) (F0 m 26 ls []))) (k49 : Int32 → Int32 → Int32 → Int32 → Int32 → VS → Prop) (K49 : (∀ (x2 : Int32) (x3 : Int32) (x4 : Int32) (x5 : Int32) (x6 : Int32) (V : VS) (H : Heap) (locs : List Loc) (ls : Array Slot), HV D A V H → va_S A s.heap H locs → lv_has ls 9 [(0, .ref a0), (1, .int a1), (2, .int x2), (3, .int x3), (4, .int x4), (5, .int x5), (6, .int x6)] → k49 x2 x3 x4 x5 x6 V → W p l e rX1_lies s m args below meth c H locs 0 0 (MQ below (va_Qi Post (vB D A) A) args s 0 0 A) (F0 m 49 ls []))) (k77 : Int32 → Int32 → Int32 → Int32 → Int32 → Int32 → Int32 → VS → Prop) (K77 : (∀ (x2 : Int32) (x3 : Int32) (x4 : Int32) (x5 : Int32) (x6 : Int32) (x7 : Int32) (x8 : Int32) (V : VS) (H : Heap) (locs : List Loc) (ls : Array Slot), HV D A V H → va_S A s.heap H locs → lv_has ls 9 [(0, .ref a0), (1, .int a1), (2, .int x2), (3, .int x3), (4, .int x4), (5, .int x5), (6, .int x6), (7, .int x7), (8, .int x8)] → k77 x2 x3 x4 x5 x6 x7 x8 V → W p l e rX1_lies s m args below meth c H locs 0 0 (MQ below (va_Qi Post (vB D A) A) args s 0 0 A) (F0 m 77 ls []))), ∀ (x2 : Int32) (x3 : Int32) (x4 : Int32) (x5 : Int32) (x6 : Int32) (x8 : Int32) (t0 : Int32) (V : VS) (H : Heap) (locs : List Loc) (ls : Array Slot), HV D A V H → va_S A s.heap H locs → lv_has ls 9 [(0, .ref a0), (1, .int a1), (2, .int x2), (3, .int x3), (4, .int x4), (5, .int x5), (6, .int x6), (8, .int x8)] → vX1_lies_c120 cA a0 a1 k26 k49 k77 Post x2 x3 x4 x5 x6 x8 t0 V → W p l e rX1_lies s m args below meth c H locs 0 0 (MQ below (va_Qi Post (vB D A) A) args s 0 0 A) (F0 m 120 ls [.int t0]) := by
    intro k26 K26 k49 K49 k77 K77
    intro x2 x3 x4 x5 x6 x8 t0 V H locs ls hV hS hl h
    unfold vX1_lies_c120 at h
    refine lv_iconst hx hb dX1_lies_120 kc_0 ?_
    exact C121 _ K26 _ K49 _ K77 _ _ _ _ _ _ _ _ _ _ _ _ hV hS (lv_sub hl [0, 1, 2, 3, 4, 5, 6, 7] rfl) h
  have L77 : ∀ (k26 : Int32 → Int32 → VS → Prop) (K26 : (∀ (x2 : Int32) (x3 : Int32) (V : VS) (H : Heap) (locs : List Loc) (ls : Array Slot), HV D A V H → va_S A s.heap H locs → lv_has ls 9 [(0, .ref a0), (1, .int a1), (2, .int x2), (3, .int x3)] → k26 x2 x3 V → W p l e rX1_lies s m args below meth c H locs 0 0 (MQ below (va_Qi Post (vB D A) A) args s 0 0 A) (F0 m 26 ls []))) (k49 : Int32 → Int32 → Int32 → Int32 → Int32 → VS → Prop) (K49 : (∀ (x2 : Int32) (x3 : Int32) (x4 : Int32) (x5 : Int32) (x6 : Int32) (V : VS) (H : Heap) (locs : List Loc) (ls : Array Slot), HV D A V H → va_S A s.heap H locs → lv_has ls 9 [(0, .ref a0), (1, .int a1), (2, .int x2), (3, .int x3), (4, .int x4), (5, .int x5), (6, .int x6)] → k49 x2 x3 x4 x5 x6 V → W p l e rX1_lies s m args below meth c H locs 0 0 (MQ below (va_Qi Post (vB D A) A) args s 0 0 A) (F0 m 49 ls []))), ∀ (n : Nat) (x2 : Int32) (x3 : Int32) (x4 : Int32) (x5 : Int32) (x6 : Int32) (x7 : Int32) (x8 : Int32) (V : VS) (H : Heap) (locs : List Loc) (ls : Array Slot), HV D A V H → va_S A s.heap H locs → lv_has ls 9 [(0, .ref a0), (1, .int a1), (2, .int x2), (3, .int x3), (4, .int x4), (5, .int x5), (6, .int x6), (7, .int x7), (8, .int x8)] → vX1_lies_l77 cA a0 a1 k26 k49 Post n x2 x3 x4 x5 x6 x7 x8 V → W p l e rX1_lies s m args below meth c H locs 0 0 (MQ below (va_Qi Post (vB D A) A) args s 0 0 A) (F0 m 77 ls []) := by
    intro k26 K26 k49 K49
    intro n
    induction n with
    | zero => intro x2 x3 x4 x5 x6 x7 x8 V H locs ls hV hS hl h; rw [vX1_lies_l77] at h; exact h.elim
    | succ n ih =>
      intro x2 x3 x4 x5 x6 x7 x8 V H locs ls hV hS hl h
      rw [vX1_lies_l77] at h
      refine lv_iload hx hb dX1_lies_77 (lv_at hl 8 rfl) ?_
      refine lv_aload_n hx hb dX1_lies_79 rfl (lv_at hl 0 rfl) ?_
      obtain ⟨p_42, e_43, h⟩ := bO_e h
      refine vg_r S hK hV fX1_49 e_43 dX1_lies_80 ?_
      obtain ⟨n_44, z_n_44, h9⟩ := bO_e h
      clear h; subst z_n_44; have h := h9; clear h9
      obtain ⟨p_45, e_46, h⟩ := bO_e h
      refine vg_r S hK hV fX1_115 e_46 dX1_lies_83 ?_
      obtain ⟨n_47, z_n_47, h9⟩ := bO_e h
      clear h; subst z_n_47; have h := h9; clear h9
      obtain ⟨o_50, e_51, h⟩ := bO_e h
      refine vk_i (vr_V (As := []) (rest := [.int x8]) S hK hG hA hV hS e_51 rfl (mvJ2_size l n_47 V _ h) (cwV 0 S.2.2.2.2 (lw_V q972 q591 q592 q144 q593) rfl rfl rfl cdJ2_size ⟨Nat.le_of_ble_eq_true rfl, Nat.le_of_ble_eq_true rfl⟩) rfl hl.1 (Nat.le_of_ble_eq_true rfl) dX1_lies_86 ⟨Nat.le_refl _, Nat.le_refl _⟩) hS (fun r_48 V_49 H locs h hV hS => ?_)
      refine lv_icmp_ge (tgt := 130) hx hb dX1_lies_89 (by decide) (fun c_52 => ?_) (fun c_52 => ?_)
      · replace h := h.1 c_52
        refine lv_iload hx hb dX1_lies_130 (lv_at hl 4 rfl) ?_
        refine lv_iload hx hb dX1_lies_132 (lv_at hl 7 rfl) ?_
        refine lv_iadd hx hb dX1_lies_134 ?_
        refine lv_topi (fun v_53 e_v_53 => ?_)
        replace h := h v_53 e_v_53
        refine lv_istore (lv' := [(4, .int v_53), (0, .ref a0), (1, .int a1), (2, .int x2), (3, .int x3), (5, .int x5), (6, .int x6), (7, .int x7), (8, .int x8)]) hx hb dX1_lies_135 hl (by decide) rfl (fun ls hl => ?_)
        refine lv_iload hx hb dX1_lies_137 (lv_at hl 5 rfl) ?_
        refine lv_iload hx hb dX1_lies_139 (lv_at hl 7 rfl) ?_
        refine va_mmax hx hb (S.2.2.1.trans hl.1.symm) S.2.2.2.1 (S.2.2.2.2 _ q1168) (S.2.2.2.2 _ q464) (S.2.2.2.2 _ q150) (S.2.2.2.2 _ q465) (Nat.le_of_ble_eq_true rfl) (Nat.le_of_ble_eq_true rfl) (Nat.le_refl _) (Nat.le_refl _) dX1_lies_141 ?_
        refine lv_topi (fun v_54 e_v_54 => ?_)
        replace h := h v_54 e_v_54
        refine lv_istore (lv' := [(5, .int v_54), (4, .int v_53), (0, .ref a0), (1, .int a1), (2, .int x2), (3, .int x3), (6, .int x6), (7, .int x7), (8, .int x8)]) hx hb dX1_lies_144 hl (by decide) rfl (fun ls hl => ?_)
        obtain ⟨v_55, e_v_55⟩ : ∃ y : Int32, y = x6 + (1 : Int32) := ⟨_, rfl⟩
        replace h := h v_55 e_v_55
        refine lv_iinc (v := v_55) (lv' := [(6, .int v_55), (5, .int v_54), (4, .int v_53), (0, .ref a0), (1, .int a1), (2, .int x2), (3, .int x3), (7, .int x7), (8, .int x8)]) hx hb dX1_lies_146 hl (k := 6) rfl (by rw [kc_1, e_v_55]) (by decide) rfl (fun ls hl => ?_)
        refine lv_goto (tgt := 49) hx hb dX1_lies_149 (by decide) ?_
        exact K49 _ _ _ _ _ _ _ _ _ hV hS (lv_sub hl [3, 4, 5, 6, 2, 1, 0] rfl) h
      · replace h := h.2 c_52
        refine lv_iload hx hb dX1_lies_92 (lv_at hl 7 rfl) ?_
        refine lv_iload_n hx hb dX1_lies_94 rfl (lv_at hl 1 rfl) ?_
        refine lv_iload hx hb dX1_lies_95 (lv_at hl 8 rfl) ?_
        refine lv_ishr hx hb dX1_lies_97 ?_
        refine lv_iconst hx hb dX1_lies_98 kc_1 ?_
        refine lv_iand hx hb dX1_lies_99 ?_
        refine lv_iconst hx hb dX1_lies_100 kc_1 ?_
        refine lv_icmp_ne (tgt := 120) hx hb dX1_lies_101 (by decide) (fun c_56 => ?_) (fun c_56 => ?_)
        · replace h := h.2 c_56
          exact C120 _ K26 _ K49 _ ih _ _ _ _ _ _ _ _ _ _ _ hV hS (lv_sub hl [0, 1, 2, 3, 4, 5, 6, 8] rfl) h
        · replace h := h.1 c_56
          refine lv_aload_n hx hb dX1_lies_104 rfl (lv_at hl 0 rfl) ?_
          refine lv_iload hx hb dX1_lies_105 (lv_at hl 8 rfl) ?_
          refine lv_iload_n hx hb dX1_lies_107 rfl (lv_at hl 3 rfl) ?_
          obtain ⟨o_61, e_62, h⟩ := bO_e h
          refine vk_i (vr_V (As := [.int x8, .int x3]) (rest := [.int x7]) S hK hG hA hV hS e_62 rfl (mvX1_storyOf l a0 x8 x3 V_49 _ h) (cwV 2 S.2.2.2.2 (lw_V q1173 q1175 qs49 q139 q1176) rfl rfl rfl cdX1_storyOf ⟨Nat.le_of_ble_eq_true rfl, Nat.le_of_ble_eq_true rfl⟩) rfl hl.1 (Nat.le_of_ble_eq_true rfl) dX1_lies_108 ⟨Nat.le_refl _, Nat.le_refl _⟩) hS (fun r_59 V_60 H locs h hV hS => ?_)
          refine lv_iload hx hb dX1_lies_111 (lv_at hl 6 rfl) ?_
          refine lv_icmp_ne (tgt := 120) hx hb dX1_lies_113 (by decide) (fun c_63 => ?_) (fun c_63 => ?_)
          · replace h := h.2 c_63
            exact C120 _ K26 _ K49 _ ih _ _ _ _ _ _ _ _ _ _ _ hV hS (lv_sub hl [0, 1, 2, 3, 4, 5, 6, 8] rfl) h
          · replace h := h.1 c_63
            refine lv_iconst hx hb dX1_lies_116 kc_1 ?_
            refine lv_goto (tgt := 121) hx hb dX1_lies_117 (by decide) ?_
            exact C121 _ K26 _ K49 _ ih _ _ _ _ _ _ _ _ _ _ _ _ hV hS (lv_sub hl [0, 1, 2, 3, 4, 5, 6, 8] rfl) h
  have L49 : ∀ (k26 : Int32 → Int32 → VS → Prop) (K26 : (∀ (x2 : Int32) (x3 : Int32) (V : VS) (H : Heap) (locs : List Loc) (ls : Array Slot), HV D A V H → va_S A s.heap H locs → lv_has ls 9 [(0, .ref a0), (1, .int a1), (2, .int x2), (3, .int x3)] → k26 x2 x3 V → W p l e rX1_lies s m args below meth c H locs 0 0 (MQ below (va_Qi Post (vB D A) A) args s 0 0 A) (F0 m 26 ls []))), ∀ (n : Nat) (x2 : Int32) (x3 : Int32) (x4 : Int32) (x5 : Int32) (x6 : Int32) (V : VS) (H : Heap) (locs : List Loc) (ls : Array Slot), HV D A V H → va_S A s.heap H locs → lv_has ls 9 [(0, .ref a0), (1, .int a1), (2, .int x2), (3, .int x3), (4, .int x4), (5, .int x5), (6, .int x6)] → vX1_lies_l49 cA a0 a1 k26 Post n x2 x3 x4 x5 x6 V → W p l e rX1_lies s m args below meth c H locs 0 0 (MQ below (va_Qi Post (vB D A) A) args s 0 0 A) (F0 m 49 ls []) := by
    intro k26 K26
    intro n
    induction n with
    | zero => intro x2 x3 x4 x5 x6 V H locs ls hV hS hl h; rw [vX1_lies_l49] at h; exact h.elim
    | succ n ih =>
      intro x2 x3 x4 x5 x6 V H locs ls hV hS hl h
      rw [vX1_lies_l49] at h
      refine lv_iload hx hb dX1_lies_49 (lv_at hl 6 rfl) ?_
      refine lv_aload_n hx hb dX1_lies_51 rfl (lv_at hl 0 rfl) ?_
      obtain ⟨p_24, e_25, h⟩ := bO_e h
      refine vg_r S hK hV fX1_49 e_25 dX1_lies_52 ?_
      obtain ⟨n_26, z_n_26, h9⟩ := bO_e h
      clear h; subst z_n_26; have h := h9; clear h9
      obtain ⟨p_27, e_28, h⟩ := bO_e h
      refine vg_r S hK hV fX1_125 e_28 dX1_lies_55 ?_
      refine lv_iload_n hx hb dX1_lies_58 rfl (lv_at hl 3 rfl) ?_
      obtain ⟨n_29, z_n_29, h9⟩ := bO_e h
      clear h; subst z_n_29; have h := h9; clear h9
      obtain ⟨o_32, e_33, h⟩ := bO_e h
      refine vk_q (vr_V (As := [.int x3]) (rest := [.int x6]) S hK hG hA hV hS e_33 rfl (mvJ2_get l n_29 x3 V _ h) (cwV 1 S.2.2.2.2 (lw_V q973 q608 q609 q144 q610) rfl rfl rfl cdJ2_get ⟨Nat.le_of_ble_eq_true rfl, Nat.le_of_ble_eq_true rfl⟩) rfl hl.1 (Nat.le_of_ble_eq_true rfl) dX1_lies_59 ⟨Nat.le_refl _, Nat.le_refl _⟩) hS (fun p_30 V_31 H locs h hV hS => ?_)
      obtain ⟨n_34, z_n_34, h9⟩ := bO_e h
      clear h; subst z_n_34; have h := h9; clear h9
      obtain ⟨o_35, e_36, h⟩ := bO_e h
      refine v_cast S hK hV e_36 ct_SaidSo_Thing q1001 dX1_lies_62 ?_
      obtain ⟨g_37, e_38, h⟩ := bO_e h
      refine vg_i S hK hV fX1_141 e_38 dX1_lies_65 ?_
      refine lv_icmp_ge (tgt := 152) hx hb dX1_lies_68 (by decide) (fun c_39 => ?_) (fun c_39 => ?_)
      · replace h := h.1 c_39
        refine lv_iload_n hx hb dX1_lies_152 rfl (lv_at hl 2 rfl) ?_
        refine lv_iload hx hb dX1_lies_153 (lv_at hl 4 rfl) ?_
        refine lv_iload hx hb dX1_lies_155 (lv_at hl 5 rfl) ?_
        refine lv_isub hx hb dX1_lies_157 ?_
        refine lv_iadd hx hb dX1_lies_158 ?_
        refine lv_topi (fun v_40 e_v_40 => ?_)
        replace h := h v_40 e_v_40
        refine lv_istore_n (lv' := [(2, .int v_40), (0, .ref a0), (1, .int a1), (3, .int x3), (4, .int x4), (5, .int x5), (6, .int x6)]) hx hb dX1_lies_159 rfl hl (by decide) rfl (fun ls hl => ?_)
        obtain ⟨v_41, e_v_41⟩ : ∃ y : Int32, y = x3 + (1 : Int32) := ⟨_, rfl⟩
        replace h := h v_41 e_v_41
        refine lv_iinc (v := v_41) (lv' := [(3, .int v_41), (2, .int v_40), (0, .ref a0), (1, .int a1), (4, .int x4), (5, .int x5), (6, .int x6)]) hx hb dX1_lies_160 hl (k := 3) rfl (by rw [kc_1, e_v_41]) (by decide) rfl (fun ls hl => ?_)
        refine lv_goto (tgt := 26) hx hb dX1_lies_163 (by decide) ?_
        exact K26 _ _ _ _ _ _ hV hS (lv_sub hl [2, 3, 1, 0] rfl) h
      · replace h := h.2 c_39
        refine lv_iconst hx hb dX1_lies_71 kc_0 ?_
        refine lv_istore (lv' := [(7, .int (0 : Int32)), (0, .ref a0), (1, .int a1), (2, .int x2), (3, .int x3), (4, .int x4), (5, .int x5), (6, .int x6)]) hx hb dX1_lies_72 hl (by decide) rfl (fun ls hl => ?_)
        refine lv_iconst hx hb dX1_lies_74 kc_0 ?_
        refine lv_istore (lv' := [(8, .int (0 : Int32)), (7, .int (0 : Int32)), (0, .ref a0), (1, .int a1), (2, .int x2), (3, .int x3), (4, .int x4), (5, .int x5), (6, .int x6)]) hx hb dX1_lies_75 hl (by decide) rfl (fun ls hl => ?_)
        obtain ⟨f, h⟩ := h
        exact L77 _ K26 _ ih f _ _ _ _ _ _ _ _ _ _ _ hV hS (lv_sub hl [2, 3, 4, 5, 6, 7, 8, 1, 0] rfl) h
  have L26 : ∀ (n : Nat) (x2 : Int32) (x3 : Int32) (V : VS) (H : Heap) (locs : List Loc) (ls : Array Slot), HV D A V H → va_S A s.heap H locs → lv_has ls 9 [(0, .ref a0), (1, .int a1), (2, .int x2), (3, .int x3)] → vX1_lies_l26 cA a0 a1 Post n x2 x3 V → W p l e rX1_lies s m args below meth c H locs 0 0 (MQ below (va_Qi Post (vB D A) A) args s 0 0 A) (F0 m 26 ls []) := by
    intro n
    induction n with
    | zero => intro x2 x3 V H locs ls hV hS hl h; rw [vX1_lies_l26] at h; exact h.elim
    | succ n ih =>
      intro x2 x3 V H locs ls hV hS hl h
      rw [vX1_lies_l26] at h
      refine lv_iload_n hx hb dX1_lies_26 rfl (lv_at hl 3 rfl) ?_
      refine lv_aload_n hx hb dX1_lies_27 rfl (lv_at hl 0 rfl) ?_
      obtain ⟨p_13, e_14, h⟩ := bO_e h
      refine vg_r S hK hV fX1_49 e_14 dX1_lies_28 ?_
      obtain ⟨n_15, z_n_15, h9⟩ := bO_e h
      clear h; subst z_n_15; have h := h9; clear h9
      obtain ⟨p_16, e_17, h⟩ := bO_e h
      refine vg_r S hK hV fX1_125 e_17 dX1_lies_31 ?_
      obtain ⟨n_18, z_n_18, h9⟩ := bO_e h
      clear h; subst z_n_18; have h := h9; clear h9
      obtain ⟨o_21, e_22, h⟩ := bO_e h
      refine vk_i (vr_V (As := []) (rest := [.int x3]) S hK hG hA hV hS e_22 rfl (mvJ2_size l n_18 V _ h) (cwV 0 S.2.2.2.2 (lw_V q972 q591 q592 q144 q593) rfl rfl rfl cdJ2_size ⟨Nat.le_of_ble_eq_true rfl, Nat.le_of_ble_eq_true rfl⟩) rfl hl.1 (Nat.le_of_ble_eq_true rfl) dX1_lies_34 ⟨Nat.le_refl _, Nat.le_refl _⟩) hS (fun r_19 V_20 H locs h hV hS => ?_)
      refine lv_icmp_ge (tgt := 166) hx hb dX1_lies_37 (by decide) (fun c_23 => ?_) (fun c_23 => ?_)
      · replace h := h.1 c_23
        refine lv_iload_n hx hb dX1_lies_166 rfl (lv_at hl 2 rfl) ?_
        exact ve_i S hlocks hret hV hS h rfl (Nat.le_refl _) (Nat.le_refl _) dX1_lies_167
      · replace h := h.2 c_23
        refine lv_iconst hx hb dX1_lies_40 kc_0 ?_
        refine lv_istore (lv' := [(4, .int (0 : Int32)), (0, .ref a0), (1, .int a1), (2, .int x2), (3, .int x3)]) hx hb dX1_lies_41 hl (by decide) rfl (fun ls hl => ?_)
        refine lv_iconst hx hb dX1_lies_43 kc_0 ?_
        refine lv_istore (lv' := [(5, .int (0 : Int32)), (4, .int (0 : Int32)), (0, .ref a0), (1, .int a1), (2, .int x2), (3, .int x3)]) hx hb dX1_lies_44 hl (by decide) rfl (fun ls hl => ?_)
        refine lv_iconst hx hb dX1_lies_46 kc_0 ?_
        refine lv_istore (lv' := [(6, .int (0 : Int32)), (5, .int (0 : Int32)), (4, .int (0 : Int32)), (0, .ref a0), (1, .int a1), (2, .int x2), (3, .int x3)]) hx hb dX1_lies_47 hl (by decide) rfl (fun ls hl => ?_)
        obtain ⟨f, h⟩ := h
        exact L49 _ ih f _ _ _ _ _ _ _ _ _ hV hS (lv_sub hl [3, 4, 5, 6, 2, 1, 0] rfl) h
  unfold vX1_lies at h
  refine lv_iload_n hx hb dX1_lies_0 rfl (lv_at hl 1 rfl) ?_
  refine lv_if_lt (tgt := 20) hx hb dX1_lies_1 (by decide) (fun c_1 => ?_) (fun c_1 => ?_)
  · replace h := h.1 c_1
    refine lv_iconst hx hb dX1_lies_20 kc_m1 ?_
    exact ve_i S hlocks hret hV hS h rfl (Nat.le_refl _) (Nat.le_refl _) dX1_lies_21
  · replace h := h.2 c_1
    refine lv_iload_n hx hb dX1_lies_4 rfl (lv_at hl 1 rfl) ?_
    refine lv_iconst hx hb dX1_lies_5 kc_1 ?_
    refine lv_aload_n hx hb dX1_lies_6 rfl (lv_at hl 0 rfl) ?_
    obtain ⟨p_2, e_3, h⟩ := bO_e h
    refine vg_r S hK hV fX1_49 e_3 dX1_lies_7 ?_
    obtain ⟨n_4, z_n_4, h9⟩ := bO_e h
    clear h; subst z_n_4; have h := h9; clear h9
    obtain ⟨p_5, e_6, h⟩ := bO_e h
    refine vg_r S hK hV fX1_115 e_6 dX1_lies_10 ?_
    obtain ⟨n_7, z_n_7, h9⟩ := bO_e h
    clear h; subst z_n_7; have h := h9; clear h9
    obtain ⟨o_10, e_11, h⟩ := bO_e h
    refine vk_i (vr_V (As := []) (rest := [.int (1 : Int32), .int a1]) S hK hG hA hV hS e_11 rfl (mvJ2_size l n_7 V _ h) (cwV 0 S.2.2.2.2 (lw_V q972 q591 q592 q144 q593) rfl rfl rfl cdJ2_size ⟨Nat.le_of_ble_eq_true rfl, Nat.le_of_ble_eq_true rfl⟩) rfl hl.1 (Nat.le_of_ble_eq_true rfl) dX1_lies_13 ⟨Nat.le_refl _, Nat.le_refl _⟩) hS (fun r_8 V_9 H locs h hV hS => ?_)
    refine lv_ishl hx hb dX1_lies_16 ?_
    refine lv_icmp_lt (tgt := 22) hx hb dX1_lies_17 (by decide) (fun c_12 => ?_) (fun c_12 => ?_)
    · replace h := h.1 c_12
      refine lv_iconst hx hb dX1_lies_22 kc_0 ?_
      refine lv_istore_n (lv' := [(2, .int (0 : Int32)), (0, .ref a0), (1, .int a1)]) hx hb dX1_lies_23 rfl hl (by decide) rfl (fun ls hl => ?_)
      refine lv_iconst hx hb dX1_lies_24 kc_0 ?_
      refine lv_istore_n (lv' := [(3, .int (0 : Int32)), (2, .int (0 : Int32)), (0, .ref a0), (1, .int a1)]) hx hb dX1_lies_25 rfl hl (by decide) rfl (fun ls hl => ?_)
      obtain ⟨f, h⟩ := h
      exact L26 f _ _ _ _ _ _ hV hS (lv_sub hl [2, 3, 1, 0] rfl) h
    · replace h := h.2 c_12
      refine lv_iconst hx hb dX1_lies_20 kc_m1 ?_
      exact ve_i S hlocks hret hV hS h rfl (Nat.le_refl _) (Nat.le_refl _) dX1_lies_21
def vX1_supposed_c161 (cA : Nat → ClassId) (a0 : Nat) (a1 : Int32) (k33 : Nat → Int32 → Int32 → Int32 → VS → Prop) (Post : Int32 → VS → Prop) (x2 : Nat) (x3 : Int32) (x4 : Int32) (x5 : Int32) (V : VS) : Prop := ∀ v_40 : Int32, v_40 = x5 + (1 : Int32) → k33 x2 x3 x4 v_40 V
def vX1_supposed_l33 (cA : Nat → ClassId) (a0 : Nat) (a1 : Int32) (Post : Int32 → VS → Prop) : Nat → Nat → Int32 → Int32 → Int32 → VS → Prop
  | 0, _, _, _, _, _ => False
  | n + 1, x2, x3, x4, x5, V => bO (gR V [1] a0 11) (fun p_19 => bO p_19 (fun n_21 => bO (gR V [3] n_21 2) (fun p_22 => bO p_22 (fun n_24 => bO (vO V [14] n_24) (fun o_27 => vJ2_size cA n_24 V (fun r_25 V_26 => (r_25 ≤ x5 → (Post x3 V_26)) ∧ (¬ (r_25 ≤ x5) → (bO (gI V_26 [6] x2 4) (fun g_30 => bO (gI V_26 [6] x2 2) (fun g_32 => (g_30 ≤ g_32 → (Post x3 V_26)) ∧ (¬ (g_30 ≤ g_32) → (bO (vO V_26 [1] a0) (fun o_37 => vX1_heard cA a0 x5 a1 (-1 : Int32) V_26 (fun p_35 V_36 => (p_35 = none → (vX1_supposed_c161 cA a0 a1 (vX1_supposed_l33 cA a0 a1 Post n) Post x2 x3 x4 x5 V_36)) ∧ (∀ n_39 : Nat, p_35 = some n_39 → (bO (gI V_36 [7, 8] n_39 4) (fun g_41 => bO (vO V_36 [6] x2) (fun o_45 => vX7_isTaped cA x2 g_41 V_36 (fun r_43 V_44 => (r_43 = 0 → (vX1_supposed_c161 cA a0 a1 (vX1_supposed_l33 cA a0 a1 Post n) Post x2 x3 x4 x5 V_44)) ∧ (¬ (r_43 = 0) → (∀ K_50 : Int32 → VS → Prop, K_50 = (fun r_48 V_49 => (r_48 = 0 → (bO (gI V_49 [7, 8] n_39 3) (fun g_77 => ∀ v_79 : Int32, v_79 = x4 ||| ((1 : Int32) <<< (g_77 &&& (31 : Int32))) → vX1_supposed_c161 cA a0 a1 (vX1_supposed_l33 cA a0 a1 Post n) Post x2 x3 v_79 x5 V_49))) ∧ (¬ (r_48 = 0) → (bO (vO V_49 [7] n_39) (fun o_54 => bO (vO V_49 [7] n_39) (fun o_58 => vX9_isRight cA n_39 V_49 (fun r_56 V_57 => (r_56 = 0 → (vX1_supposed_c161 cA a0 a1 (vX1_supposed_l33 cA a0 a1 Post n) Post x2 x3 x4 x5 V_57)) ∧ (¬ (r_56 = 0) → (bO (gI V_57 [7, 8] n_39 3) (fun g_61 => (((x4 >>> (g_61 &&& (31 : Int32))) &&& (1 : Int32)) = 0 → (bO (gR V_57 [7, 8] n_39 1) (fun p_64 => bO (gI V_57 [6] x2 4) (fun g_66 => bO p_64 (fun n_68 => bO (vO V_57 [5] n_68) (fun o_71 => vX6_isPolice cA n_68 g_66 V_57 (fun r_69 V_70 => (r_69 = 0 → (vX1_supposed_c161 cA a0 a1 (vX1_supposed_l33 cA a0 a1 Post n) Post x2 x3 x4 x5 V_70)) ∧ (¬ (r_69 = 0) → (bO (gI V_70 [7, 8] n_39 3) (fun g_74 => ∀ v_76 : Int32, v_76 = x3 ||| ((1 : Int32) <<< (g_74 &&& (31 : Int32))) → vX1_supposed_c161 cA a0 a1 (vX1_supposed_l33 cA a0 a1 Post n) Post x2 v_76 x4 x5 V_70)))))))))) ∧ (¬ (((x4 >>> (g_61 &&& (31 : Int32))) &&& (1 : Int32)) = 0) → (vX1_supposed_c161 cA a0 a1 (vX1_supposed_l33 cA a0 a1 Post n) Post x2 x3 x4 x5 V_57))))))))))) → bO (vO V_44 [7, 8] n_39) (fun o_51 => (o_51.1 = 7 → vX9_isWord cA n_39 V_44 K_50) ∧ (¬ o_51.1 = 7 → vX8_isWord cA n_39 V_44 K_50)))))))))))))))))))))))
def vX1_supposed (cA : Nat → ClassId) (a0 : Nat) (a1 : Int32) (V : VS) (Post : Int32 → VS → Prop) : Prop := bO (vO V [1] a0) (fun o_3 => vX1_isTeller cA a0 a1 V (fun r_1 V_2 => (r_1 = 0 → (Post (-1 : Int32) V_2)) ∧ (¬ (r_1 = 0) → (bO (gR V_2 [1] a0 11) (fun p_6 => bO p_6 (fun n_8 => bO (gR V_2 [3] n_8 1) (fun p_9 => bO p_9 (fun n_11 => bO (vO V_2 [14] n_11) (fun o_14 => vJ2_get cA n_11 a1 V_2 (fun p_12 V_13 => bO p_12 (fun n_16 => bO (vO V_13 [6] n_16) (fun o_17 => ∃ f, vX1_supposed_l33 cA a0 a1 Post f n_16 (0 : Int32) (0 : Int32) (0 : Int32) V_13))))))))))))
abbrev rX1_supposed : Room := { frames := 4, cells := 0, slots := 0, locals := 88 }
theorem cdX1_supposed : yX1_supposed.cls = RX1 ∧ yX1_supposed.cls ≠ "java/lang/invoke/MethodHandle" ∧ yX1_supposed.cls ≠ "java/lang/invoke/VarHandle" ∧ (parseMethodDescriptor yX1_supposed.desc).map (fun d => d.parameters.length) = some 1 := by decide +kernel
set_option maxHeartbeats 4000000 in
set_option maxRecDepth 100000 in
theorem mvX1_supposed (l : Launch) {D : va_G} {cA : Nat → ClassId} {A : Nat → Prop} (a0 : Nat) (a1 : Int32) (V : VS) (Post : Int32 → VS → Prop) (h : vX1_supposed cA a0 a1 V Post) : Met l yX1_supposed (ws_ yX1_supposed cX1_supposed 7 (some (.int))) rX1_supposed (vPc [.ref a0, .int a1] D cA A V) (va_Qi Post (vB D A) A) 0 0 A := by
  refine vstM (own := RX1) (by decide) rfl (Nat.le_of_ble_eq_true rfl) ?_
  intro p e s m args below meth c ls X hret hV hS hl
  obtain ⟨S, hK, hG, hA, hnm, hlocks⟩ := X
  have hx := S.1
  have hb := S.2.1
  have hl : lv_has ls 7 [(0, .ref a0), (1, .int a1)] := hl
  have C161 : ∀ (k33 : Nat → Int32 → Int32 → Int32 → VS → Prop) (K33 : (∀ (x2 : Nat) (x3 : Int32) (x4 : Int32) (x5 : Int32) (V : VS) (H : Heap) (locs : List Loc) (ls : Array Slot), HV D A V H → va_S A s.heap H locs → lv_has ls 7 [(0, .ref a0), (1, .int a1), (2, .ref x2), (3, .int x3), (4, .int x4), (5, .int x5)] → k33 x2 x3 x4 x5 V → W p l e rX1_supposed s m args below meth c H locs 0 0 (MQ below (va_Qi Post (vB D A) A) args s 0 0 A) (F0 m 33 ls []))), ∀ (x2 : Nat) (x3 : Int32) (x4 : Int32) (x5 : Int32) (V : VS) (H : Heap) (locs : List Loc) (ls : Array Slot), HV D A V H → va_S A s.heap H locs → lv_has ls 7 [(0, .ref a0), (1, .int a1), (2, .ref x2), (3, .int x3), (4, .int x4), (5, .int x5)] → vX1_supposed_c161 cA a0 a1 k33 Post x2 x3 x4 x5 V → W p l e rX1_supposed s m args below meth c H locs 0 0 (MQ below (va_Qi Post (vB D A) A) args s 0 0 A) (F0 m 161 ls []) := by
    intro k33 K33
    intro x2 x3 x4 x5 V H locs ls hV hS hl h
    unfold vX1_supposed_c161 at h
    obtain ⟨v_40, e_v_40⟩ : ∃ y : Int32, y = x5 + (1 : Int32) := ⟨_, rfl⟩
    replace h := h v_40 e_v_40
    refine lv_iinc (v := v_40) (lv' := [(5, .int v_40), (0, .ref a0), (1, .int a1), (2, .ref x2), (3, .int x3), (4, .int x4)]) hx hb dX1_supposed_161 hl (k := 5) rfl (by rw [kc_1, e_v_40]) (by decide) rfl (fun ls hl => ?_)
    refine lv_goto (tgt := 33) hx hb dX1_supposed_164 (by decide) ?_
    exact K33 _ _ _ _ _ _ _ _ hV hS (lv_sub hl [1, 2, 3, 4, 5, 0] rfl) h
  have L33 : ∀ (n : Nat) (x2 : Nat) (x3 : Int32) (x4 : Int32) (x5 : Int32) (V : VS) (H : Heap) (locs : List Loc) (ls : Array Slot), HV D A V H → va_S A s.heap H locs → lv_has ls 7 [(0, .ref a0), (1, .int a1), (2, .ref x2), (3, .int x3), (4, .int x4), (5, .int x5)] → vX1_supposed_l33 cA a0 a1 Post n x2 x3 x4 x5 V → W p l e rX1_supposed s m args below meth c H locs 0 0 (MQ below (va_Qi Post (vB D A) A) args s 0 0 A) (F0 m 33 ls []) := by
    intro n
    induction n with
    | zero => intro x2 x3 x4 x5 V H locs ls hV hS hl h; rw [vX1_supposed_l33] at h; exact h.elim
    | succ n ih =>
      intro x2 x3 x4 x5 V H locs ls hV hS hl h
      rw [vX1_supposed_l33] at h
      refine lv_iload hx hb dX1_supposed_33 (lv_at hl 5 rfl) ?_
      refine lv_aload_n hx hb dX1_supposed_35 rfl (lv_at hl 0 rfl) ?_
      obtain ⟨p_19, e_20, h⟩ := bO_e h
      refine vg_r S hK hV fX1_49 e_20 dX1_supposed_36 ?_
      obtain ⟨n_21, z_n_21, h9⟩ := bO_e h
      clear h; subst z_n_21; have h := h9; clear h9
      obtain ⟨p_22, e_23, h⟩ := bO_e h
      refine vg_r S hK hV fX1_173 e_23 dX1_supposed_39 ?_
      obtain ⟨n_24, z_n_24, h9⟩ := bO_e h
      clear h; subst z_n_24; have h := h9; clear h9
      obtain ⟨o_27, e_28, h⟩ := bO_e h
      refine vk_i (vr_V (As := []) (rest := [.int x5]) S hK hG hA hV hS e_28 rfl (mvJ2_size l n_24 V _ h) (cwV 0 S.2.2.2.2 (lw_V q972 q591 q592 q144 q593) rfl rfl rfl cdJ2_size ⟨Nat.le_of_ble_eq_true rfl, Nat.le_of_ble_eq_true rfl⟩) rfl hl.1 (Nat.le_of_ble_eq_true rfl) dX1_supposed_42 ⟨Nat.le_refl _, Nat.le_refl _⟩) hS (fun r_25 V_26 H locs h hV hS => ?_)
      refine lv_icmp_ge (tgt := 167) hx hb dX1_supposed_45 (by decide) (fun c_29 => ?_) (fun c_29 => ?_)
      · replace h := h.1 c_29
        refine lv_iload_n hx hb dX1_supposed_167 rfl (lv_at hl 3 rfl) ?_
        exact ve_i S hlocks hret hV hS h rfl (Nat.le_refl _) (Nat.le_refl _) dX1_supposed_168
      · replace h := h.2 c_29
        refine lv_aload_n hx hb dX1_supposed_48 rfl (lv_at hl 2 rfl) ?_
        obtain ⟨g_30, e_31, h⟩ := bO_e h
        refine vg_i S hK hV fX1_170 e_31 dX1_supposed_49 ?_
        refine lv_aload_n hx hb dX1_supposed_52 rfl (lv_at hl 2 rfl) ?_
        obtain ⟨g_32, e_33, h⟩ := bO_e h
        refine vg_i S hK hV fX1_164 e_33 dX1_supposed_53 ?_
        refine lv_icmp_le (tgt := 167) hx hb dX1_supposed_56 (by decide) (fun c_34 => ?_) (fun c_34 => ?_)
        · replace h := h.1 c_34
          refine lv_iload_n hx hb dX1_supposed_167 rfl (lv_at hl 3 rfl) ?_
          exact ve_i S hlocks hret hV hS h rfl (Nat.le_refl _) (Nat.le_refl _) dX1_supposed_168
        · replace h := h.2 c_34
          refine lv_aload_n hx hb dX1_supposed_59 rfl (lv_at hl 0 rfl) ?_
          refine lv_iload hx hb dX1_supposed_60 (lv_at hl 5 rfl) ?_
          refine lv_iload_n hx hb dX1_supposed_62 rfl (lv_at hl 1 rfl) ?_
          refine lv_iconst hx hb dX1_supposed_63 kc_m1 ?_
          obtain ⟨o_37, e_38, h⟩ := bO_e h
          refine vk_q (vr_V (As := [.int x5, .int a1, .int (-1 : Int32)]) (rest := []) S hK hG hA hV hS e_38 rfl (mvX1_heard l a0 x5 a1 (-1 : Int32) V_26 _ h) (cwV 3 S.2.2.2.2 (lw_V q1052 q1054 qs39 q139 q1055) rfl rfl rfl cdX1_heard ⟨Nat.le_of_ble_eq_true rfl, Nat.le_of_ble_eq_true rfl⟩) rfl hl.1 (Nat.le_of_ble_eq_true rfl) dX1_supposed_64 ⟨Nat.le_refl _, Nat.le_refl _⟩) hS (fun p_35 V_36 H locs h hV hS => ?_)
          refine lv_astoreQ (r := p_35) (lv' := [(6, va_rf p_35), (0, .ref a0), (1, .int a1), (2, .ref x2), (3, .int x3), (4, .int x4), (5, .int x5)]) hx hb dX1_supposed_67 hl (by decide) rfl (fun ls hl => ?_)
          refine lv_aloadQ hx hb dX1_supposed_69 (lv_at hl 0 rfl) ?_
          rcases p_35 with _ | n_39
          · replace h := h.1 rfl
            refine lv_ifnullN (tgt := 161) hx hb dX1_supposed_71 (by decide) ?_
            exact C161 _ ih _ _ _ _ _ _ _ _ hV hS (lv_sub hl [1, 2, 3, 4, 5, 6] rfl) h
          · replace h := h.2 n_39 rfl
            refine lv_ifnull hx hb dX1_supposed_71 ?_
            refine lv_aload_n hx hb dX1_supposed_74 rfl (lv_at hl 3 rfl) ?_
            refine lv_aload hx hb dX1_supposed_75 (lv_at hl 0 rfl) ?_
            obtain ⟨g_41, e_42, h⟩ := bO_e h
            refine vg_i S hK hV fX1_178 e_42 dX1_supposed_77 ?_
            obtain ⟨o_45, e_46, h⟩ := bO_e h
            refine vk_i (vr_V (As := [.int g_41]) (rest := []) S hK hG hA hV hS e_46 rfl (mvX7_isTaped l x2 g_41 V_36 _ h) (cwV 1 S.2.2.2.2 (lw_V q1060 q1061 q1062 q160 q1063) rfl rfl rfl cdX7_isTaped ⟨Nat.le_of_ble_eq_true rfl, Nat.le_of_ble_eq_true rfl⟩) rfl hl.1 (Nat.le_of_ble_eq_true rfl) dX1_supposed_80 ⟨Nat.le_refl _, Nat.le_refl _⟩) hS (fun r_43 V_44 H locs h hV hS => ?_)
            refine lv_if_ne (tgt := 89) hx hb dX1_supposed_83 (by decide) (fun c_47 => ?_) (fun c_47 => ?_)
            · replace h := h.2 c_47
              refine lv_aload hx hb dX1_supposed_89 (lv_at hl 0 rfl) ?_
              obtain ⟨K_50, e_K_50⟩ : ∃ y : Int32 → VS → Prop, y = (fun r_48 V_49 => (r_48 = 0 → (bO (gI V_49 [7, 8] n_39 3) (fun g_77 => ∀ v_79 : Int32, v_79 = x4 ||| ((1 : Int32) <<< (g_77 &&& (31 : Int32))) → vX1_supposed_c161 cA a0 a1 (vX1_supposed_l33 cA a0 a1 Post n) Post x2 x3 v_79 x5 V_49))) ∧ (¬ (r_48 = 0) → (bO (vO V_49 [7] n_39) (fun o_54 => bO (vO V_49 [7] n_39) (fun o_58 => vX9_isRight cA n_39 V_49 (fun r_56 V_57 => (r_56 = 0 → (vX1_supposed_c161 cA a0 a1 (vX1_supposed_l33 cA a0 a1 Post n) Post x2 x3 x4 x5 V_57)) ∧ (¬ (r_56 = 0) → (bO (gI V_57 [7, 8] n_39 3) (fun g_61 => (((x4 >>> (g_61 &&& (31 : Int32))) &&& (1 : Int32)) = 0 → (bO (gR V_57 [7, 8] n_39 1) (fun p_64 => bO (gI V_57 [6] x2 4) (fun g_66 => bO p_64 (fun n_68 => bO (vO V_57 [5] n_68) (fun o_71 => vX6_isPolice cA n_68 g_66 V_57 (fun r_69 V_70 => (r_69 = 0 → (vX1_supposed_c161 cA a0 a1 (vX1_supposed_l33 cA a0 a1 Post n) Post x2 x3 x4 x5 V_70)) ∧ (¬ (r_69 = 0) → (bO (gI V_70 [7, 8] n_39 3) (fun g_74 => ∀ v_76 : Int32, v_76 = x3 ||| ((1 : Int32) <<< (g_74 &&& (31 : Int32))) → vX1_supposed_c161 cA a0 a1 (vX1_supposed_l33 cA a0 a1 Post n) Post x2 v_76 x4 x5 V_70)))))))))) ∧ (¬ (((x4 >>> (g_61 &&& (31 : Int32))) &&& (1 : Int32)) = 0) → (vX1_supposed_c161 cA a0 a1 (vX1_supposed_l33 cA a0 a1 Post n) Post x2 x3 x4 x5 V_57))))))))))) := ⟨_, rfl⟩
              replace h := h K_50 e_K_50
              obtain ⟨o_51, e_52, h⟩ := bO_e h
              have hm := (vO_e e_52).2
              simp only [List.mem_cons, List.not_mem_nil, or_false] at hm
              have KK : ∀ (r_48 : Int32) (V_49 : VS) (H1 : Heap) (locs1 : List Loc), K_50 r_48 V_49 → HV D A V_49 H1 → va_S A s.heap H1 locs1 → W p l e rX1_supposed s m args below meth c H1 locs1 (0) (0) (MQ below (va_Qi Post (vB D A) A) args s 0 0 A) (F0 m 94 ls (.int r_48 :: [])) := by
                intro r_48 V_49 H locs h hV hS
                rw [e_K_50] at h
                refine lv_if_ne (tgt := 112) hx hb dX1_supposed_94 (by decide) (fun c_53 => ?_) (fun c_53 => ?_)
                · replace h := h.2 c_53
                  refine lv_aload hx hb dX1_supposed_112 (lv_at hl 0 rfl) ?_
                  obtain ⟨o_54, e_55, h⟩ := bO_e h
                  refine v_cast S hK hV e_55 ct_SaidSo_Word q1002 dX1_supposed_114 ?_
                  obtain ⟨o_58, e_59, h⟩ := bO_e h
                  refine vk_i (vr_V (As := []) (rest := []) S hK hG hA hV hS e_59 rfl (mvX9_isRight l n_39 V_49 _ h) (cwV 0 S.2.2.2.2 (lw_V q1040 q1041 q1042 q162 q1043) rfl rfl rfl cdX9_isRight ⟨Nat.le_of_ble_eq_true rfl, Nat.le_of_ble_eq_true rfl⟩) rfl hl.1 (Nat.le_of_ble_eq_true rfl) dX1_supposed_117 ⟨Nat.le_refl _, Nat.le_refl _⟩) hS (fun r_56 V_57 H locs h hV hS => ?_)
                  refine lv_if_eq (tgt := 161) hx hb dX1_supposed_120 (by decide) (fun c_60 => ?_) (fun c_60 => ?_)
                  · replace h := h.1 c_60
                    exact C161 _ ih _ _ _ _ _ _ _ _ hV hS (lv_sub hl [1, 2, 3, 4, 5, 6] rfl) h
                  · replace h := h.2 c_60
                    refine lv_iload hx hb dX1_supposed_123 (lv_at hl 5 rfl) ?_
                    refine lv_aload hx hb dX1_supposed_125 (lv_at hl 0 rfl) ?_
                    obtain ⟨g_61, e_62, h⟩ := bO_e h
                    refine vg_i S hK hV fX1_184 e_62 dX1_supposed_127 ?_
                    refine lv_ishr hx hb dX1_supposed_130 ?_
                    refine lv_iconst hx hb dX1_supposed_131 kc_1 ?_
                    refine lv_iand hx hb dX1_supposed_132 ?_
                    refine lv_if_ne (tgt := 161) hx hb dX1_supposed_133 (by decide) (fun c_63 => ?_) (fun c_63 => ?_)
                    · replace h := h.2 c_63
                      exact C161 _ ih _ _ _ _ _ _ _ _ hV hS (lv_sub hl [1, 2, 3, 4, 5, 6] rfl) h
                    · replace h := h.1 c_63
                      refine lv_aload hx hb dX1_supposed_136 (lv_at hl 0 rfl) ?_
                      obtain ⟨p_64, e_65, h⟩ := bO_e h
                      refine vg_r S hK hV fX1_334 e_65 dX1_supposed_138 ?_
                      refine lv_aload_n hx hb dX1_supposed_141 rfl (lv_at hl 3 rfl) ?_
                      obtain ⟨g_66, e_67, h⟩ := bO_e h
                      refine vg_i S hK hV fX1_170 e_67 dX1_supposed_142 ?_
                      obtain ⟨n_68, z_n_68, h9⟩ := bO_e h
                      clear h; subst z_n_68; have h := h9; clear h9
                      obtain ⟨o_71, e_72, h⟩ := bO_e h
                      refine vk_i (vr_V (As := [.int g_66]) (rest := []) S hK hG hA hV hS e_72 rfl (mvX6_isPolice l n_68 g_66 V_57 _ h) (cwV 1 S.2.2.2.2 (lw_V q1203 q1095 q1096 q156 q1097) rfl rfl rfl cdX6_isPolice ⟨Nat.le_of_ble_eq_true rfl, Nat.le_of_ble_eq_true rfl⟩) rfl hl.1 (Nat.le_of_ble_eq_true rfl) dX1_supposed_145 ⟨Nat.le_refl _, Nat.le_refl _⟩) hS (fun r_69 V_70 H locs h hV hS => ?_)
                      refine lv_if_eq (tgt := 161) hx hb dX1_supposed_148 (by decide) (fun c_73 => ?_) (fun c_73 => ?_)
                      · replace h := h.1 c_73
                        exact C161 _ ih _ _ _ _ _ _ _ _ hV hS (lv_sub hl [1, 2, 3, 4, 5, 6] rfl) h
                      · replace h := h.2 c_73
                        refine lv_iload_n hx hb dX1_supposed_151 rfl (lv_at hl 4 rfl) ?_
                        refine lv_iconst hx hb dX1_supposed_152 kc_1 ?_
                        refine lv_aload hx hb dX1_supposed_153 (lv_at hl 0 rfl) ?_
                        obtain ⟨g_74, e_75, h⟩ := bO_e h
                        refine vg_i S hK hV fX1_184 e_75 dX1_supposed_155 ?_
                        refine lv_ishl hx hb dX1_supposed_158 ?_
                        refine lv_ior hx hb dX1_supposed_159 ?_
                        refine lv_topi (fun v_76 e_v_76 => ?_)
                        replace h := h v_76 e_v_76
                        refine lv_istore_n (lv' := [(3, .int v_76), (6, .ref n_39), (0, .ref a0), (1, .int a1), (2, .ref x2), (4, .int x4), (5, .int x5)]) hx hb dX1_supposed_160 rfl hl (by decide) rfl (fun ls hl => ?_)
                        exact C161 _ ih _ _ _ _ _ _ _ _ hV hS (lv_sub hl [2, 3, 4, 0, 5, 6] rfl) h
                · replace h := h.1 c_53
                  refine lv_iload hx hb dX1_supposed_97 (lv_at hl 5 rfl) ?_
                  refine lv_iconst hx hb dX1_supposed_99 kc_1 ?_
                  refine lv_aload hx hb dX1_supposed_100 (lv_at hl 0 rfl) ?_
                  obtain ⟨g_77, e_78, h⟩ := bO_e h
                  refine vg_i S hK hV fX1_184 e_78 dX1_supposed_102 ?_
                  refine lv_ishl hx hb dX1_supposed_105 ?_
                  refine lv_ior hx hb dX1_supposed_106 ?_
                  refine lv_topi (fun v_79 e_v_79 => ?_)
                  replace h := h v_79 e_v_79
                  refine lv_istore (lv' := [(4, .int v_79), (6, .ref n_39), (0, .ref a0), (1, .int a1), (2, .ref x2), (3, .int x3), (5, .int x5)]) hx hb dX1_supposed_107 hl (by decide) rfl (fun ls hl => ?_)
                  refine lv_goto (tgt := 161) hx hb dX1_supposed_109 (by decide) ?_
                  exact C161 _ ih _ _ _ _ _ _ _ _ hV hS (lv_sub hl [2, 3, 4, 5, 0, 6] rfl) h
              by_cases OC0 : o_51.1 = 7
              · replace h := h.1 OC0
                exact vk_i (vr_U (As := []) (rest := []) S hK hG hA hV hS e_52 OC0 rfl (mvX9_isWord l n_39 V_44 _ h) (va_cwO 0 S.2.2.2.2 (lw_O q984 q986 q985 q988 q989 q162 q990) rfl rfl rfl q991 (by decide +kernel) ⟨Nat.le_of_ble_eq_true rfl, Nat.le_of_ble_eq_true rfl⟩) rfl hl.1 (Nat.le_of_ble_eq_true rfl) dX1_supposed_91 ⟨Nat.le_refl _, Nat.le_refl _⟩) hS KK
              · replace h := h.2 OC0
                have OC1 : o_51.1 = 8 := by omega
                exact vk_i (vr_U (As := []) (rest := []) S hK hG hA hV hS e_52 OC1 rfl (mvX8_isWord l n_39 V_44 _ h) (va_cwU 0 S.2.2.2.2 (lw_U q984 q986 q987 q985 q161 q991) rfl rfl rfl rfl (by decide +kernel) ⟨Nat.le_of_ble_eq_true rfl, Nat.le_of_ble_eq_true rfl⟩) rfl hl.1 (Nat.le_of_ble_eq_true rfl) dX1_supposed_91 ⟨Nat.le_refl _, Nat.le_refl _⟩) hS KK
            · replace h := h.1 c_47
              refine lv_goto (tgt := 161) hx hb dX1_supposed_86 (by decide) ?_
              exact C161 _ ih _ _ _ _ _ _ _ _ hV hS (lv_sub hl [1, 2, 3, 4, 5, 6] rfl) h
  unfold vX1_supposed at h
  refine lv_aload_n hx hb dX1_supposed_0 rfl (lv_at hl 0 rfl) ?_
  refine lv_iload_n hx hb dX1_supposed_1 rfl (lv_at hl 1 rfl) ?_
  obtain ⟨o_3, e_4, h⟩ := bO_e h
  refine vk_i (vr_V (As := [.int a1]) (rest := []) S hK hG hA hV hS e_4 rfl (mvX1_isTeller l a0 a1 V _ h) (cwV 1 S.2.2.2.2 (lw_V q968 q970 qs31 q139 q971) rfl rfl rfl cdX1_isTeller ⟨Nat.le_of_ble_eq_true rfl, Nat.le_of_ble_eq_true rfl⟩) rfl hl.1 (Nat.le_of_ble_eq_true rfl) dX1_supposed_2 ⟨Nat.le_refl _, Nat.le_refl _⟩) hS (fun r_1 V_2 H locs h hV hS => ?_)
  refine lv_if_ne (tgt := 10) hx hb dX1_supposed_5 (by decide) (fun c_5 => ?_) (fun c_5 => ?_)
  · replace h := h.2 c_5
    refine lv_aload_n hx hb dX1_supposed_10 rfl (lv_at hl 0 rfl) ?_
    obtain ⟨p_6, e_7, h⟩ := bO_e h
    refine vg_r S hK hV fX1_49 e_7 dX1_supposed_11 ?_
    obtain ⟨n_8, z_n_8, h9⟩ := bO_e h
    clear h; subst z_n_8; have h := h9; clear h9
    obtain ⟨p_9, e_10, h⟩ := bO_e h
    refine vg_r S hK hV fX1_115 e_10 dX1_supposed_14 ?_
    refine lv_iload_n hx hb dX1_supposed_17 rfl (lv_at hl 1 rfl) ?_
    obtain ⟨n_11, z_n_11, h9⟩ := bO_e h
    clear h; subst z_n_11; have h := h9; clear h9
    obtain ⟨o_14, e_15, h⟩ := bO_e h
    refine vk_q (vr_V (As := [.int a1]) (rest := []) S hK hG hA hV hS e_15 rfl (mvJ2_get l n_11 a1 V_2 _ h) (cwV 1 S.2.2.2.2 (lw_V q973 q608 q609 q144 q610) rfl rfl rfl cdJ2_get ⟨Nat.le_of_ble_eq_true rfl, Nat.le_of_ble_eq_true rfl⟩) rfl hl.1 (Nat.le_of_ble_eq_true rfl) dX1_supposed_18 ⟨Nat.le_refl _, Nat.le_refl _⟩) hS (fun p_12 V_13 H locs h hV hS => ?_)
    obtain ⟨n_16, z_n_16, h9⟩ := bO_e h
    clear h; subst z_n_16; have h := h9; clear h9
    obtain ⟨o_17, e_18, h⟩ := bO_e h
    refine v_cast S hK hV e_18 ct_SaidSo_Teller q974 dX1_supposed_21 ?_
    refine lv_astore_n (lv' := [(2, .ref n_16), (0, .ref a0), (1, .int a1)]) hx hb dX1_supposed_24 rfl hl (by decide) rfl (fun ls hl => ?_)
    refine lv_iconst hx hb dX1_supposed_25 kc_0 ?_
    refine lv_istore_n (lv' := [(3, .int (0 : Int32)), (2, .ref n_16), (0, .ref a0), (1, .int a1)]) hx hb dX1_supposed_26 rfl hl (by decide) rfl (fun ls hl => ?_)
    refine lv_iconst hx hb dX1_supposed_27 kc_0 ?_
    refine lv_istore (lv' := [(4, .int (0 : Int32)), (3, .int (0 : Int32)), (2, .ref n_16), (0, .ref a0), (1, .int a1)]) hx hb dX1_supposed_28 hl (by decide) rfl (fun ls hl => ?_)
    refine lv_iconst hx hb dX1_supposed_30 kc_0 ?_
    refine lv_istore (lv' := [(5, .int (0 : Int32)), (4, .int (0 : Int32)), (3, .int (0 : Int32)), (2, .ref n_16), (0, .ref a0), (1, .int a1)]) hx hb dX1_supposed_31 hl (by decide) rfl (fun ls hl => ?_)
    obtain ⟨f, h⟩ := h
    exact L33 f _ _ _ _ _ _ _ _ hV hS (lv_sub hl [4, 5, 3, 2, 1, 0] rfl) h
  · replace h := h.1 c_5
    refine lv_iconst hx hb dX1_supposed_8 kc_m1 ?_
    exact ve_i S hlocks hret hV hS h rfl (Nat.le_refl _) (Nat.le_refl _) dX1_supposed_9
def vX1_nothing_l2 (cA : Nat → ClassId) (a0 : Nat) (a1 : Nat) (Post : VS → Prop) : Nat → Int32 → VS → Prop
  | 0, _, _ => False
  | n + 1, x2, V => bO (gR V [1] a0 12) (fun p_1 => bO p_1 (fun n_3 => bO (nA V (cA 2) n_3) (fun z_4 => ((nI z_4) ≤ x2 → (bO (gR V [1] a0 12) (fun p_7 => bO (gI V [6] a1 1) (fun g_9 => bO p_7 (fun n_11 => bO (tJ V (cA 2) n_11 (0 : Int32) g_9.toInt64) (fun V_12 => Post V_12)))))) ∧ (¬ ((nI z_4) ≤ x2) → (bO (gR V [1] a0 12) (fun p_14 => bO p_14 (fun n_16 => bO (tJ V (cA 2) n_16 x2 (0 : Int64)) (fun V_17 => ∀ v_19 : Int32, v_19 = x2 + (1 : Int32) → vX1_nothing_l2 cA a0 a1 Post n v_19 V_17))))))))
def vX1_nothing (cA : Nat → ClassId) (a0 : Nat) (a1 : Nat) (V : VS) (Post : VS → Prop) : Prop := ∃ f, vX1_nothing_l2 cA a0 a1 Post f (0 : Int32) V
abbrev rX1_nothing : Room := { frames := 0, cells := 0, slots := 0, locals := 0 }
theorem cdX1_nothing : yX1_nothing.cls = RX1 ∧ yX1_nothing.cls ≠ "java/lang/invoke/MethodHandle" ∧ yX1_nothing.cls ≠ "java/lang/invoke/VarHandle" ∧ (parseMethodDescriptor yX1_nothing.desc).map (fun d => d.parameters.length) = some 1 := by decide +kernel
set_option maxHeartbeats 4000000 in
set_option maxRecDepth 100000 in
theorem mvX1_nothing (l : Launch) {D : va_G} {cA : Nat → ClassId} {A : Nat → Prop} (a0 : Nat) (a1 : Nat) (V : VS) (Post : VS → Prop) (h : vX1_nothing cA a0 a1 V Post) : Met l yX1_nothing (ws_ yX1_nothing cX1_nothing 3 none) rX1_nothing (vPc [.ref a0, .ref a1] D cA A V) (va_Qv Post (vB D A) A) 0 0 A := by
  refine vstM (own := RX1) (by decide) rfl (Nat.le_of_ble_eq_true rfl) ?_
  intro p e s m args below meth c ls X hret hV hS hl
  obtain ⟨S, hK, hG, hA, hnm, hlocks⟩ := X
  have hx := S.1
  have hb := S.2.1
  have hl : lv_has ls 3 [(0, .ref a0), (1, .ref a1)] := hl
  have L2 : ∀ (n : Nat) (x2 : Int32) (V : VS) (H : Heap) (locs : List Loc) (ls : Array Slot), HV D A V H → va_S A s.heap H locs → lv_has ls 3 [(0, .ref a0), (1, .ref a1), (2, .int x2)] → vX1_nothing_l2 cA a0 a1 Post n x2 V → W p l e rX1_nothing s m args below meth c H locs 0 0 (MQ below (va_Qv Post (vB D A) A) args s 0 0 A) (F0 m 2 ls []) := by
    intro n
    induction n with
    | zero => intro x2 V H locs ls hV hS hl h; rw [vX1_nothing_l2] at h; exact h.elim
    | succ n ih =>
      intro x2 V H locs ls hV hS hl h
      rw [vX1_nothing_l2] at h
      refine lv_iload_n hx hb dX1_nothing_2 rfl (lv_at hl 2 rfl) ?_
      refine lv_aload_n hx hb dX1_nothing_3 rfl (lv_at hl 0 rfl) ?_
      obtain ⟨p_1, e_2, h⟩ := bO_e h
      refine vg_r S hK hV fX1_53 e_2 dX1_nothing_4 ?_
      obtain ⟨n_3, z_n_3, h9⟩ := bO_e h
      clear h; subst z_n_3; have h := h9; clear h9
      obtain ⟨z_4, e_5, h⟩ := bO_e h
      refine vn_a S hK hV 2 rfl e_5 dX1_nothing_7 ?_
      refine lv_icmp_ge (tgt := 24) hx hb dX1_nothing_8 (by decide) (fun c_6 => ?_) (fun c_6 => ?_)
      · replace h := h.1 c_6
        refine lv_aload_n hx hb dX1_nothing_24 rfl (lv_at hl 0 rfl) ?_
        obtain ⟨p_7, e_8, h⟩ := bO_e h
        refine vg_r S hK hV fX1_53 e_8 dX1_nothing_25 ?_
        refine lv_iconst hx hb dX1_nothing_28 kc_0 ?_
        refine lv_aload_n hx hb dX1_nothing_29 rfl (lv_at hl 1 rfl) ?_
        obtain ⟨g_9, e_10, h⟩ := bO_e h
        refine vg_i S hK hV fX1_161 e_10 dX1_nothing_30 ?_
        refine lv_i2l hx hb dX1_nothing_33 rfl ?_
        obtain ⟨n_11, z_n_11, h9⟩ := bO_e h
        clear h; subst z_n_11; have h := h9; clear h9
        obtain ⟨V_12, e_13, h⟩ := bO_e h
        refine vs_l S hK hV hS e_13 dX1_nothing_34 (fun H locs hV hS => ?_)
        exact ve_v S hlocks hret hV hS h (Nat.le_refl _) (Nat.le_refl _) dX1_nothing_35
      · replace h := h.2 c_6
        refine lv_aload_n hx hb dX1_nothing_11 rfl (lv_at hl 0 rfl) ?_
        obtain ⟨p_14, e_15, h⟩ := bO_e h
        refine vg_r S hK hV fX1_53 e_15 dX1_nothing_12 ?_
        refine lv_iload_n hx hb dX1_nothing_15 rfl (lv_at hl 2 rfl) ?_
        refine lv_lconst (v := 0) hx hb dX1_nothing_16 rfl ?_
        obtain ⟨n_16, z_n_16, h9⟩ := bO_e h
        clear h; subst z_n_16; have h := h9; clear h9
        obtain ⟨V_17, e_18, h⟩ := bO_e h
        refine vs_l S hK hV hS e_18 dX1_nothing_17 (fun H locs hV hS => ?_)
        obtain ⟨v_19, e_v_19⟩ : ∃ y : Int32, y = x2 + (1 : Int32) := ⟨_, rfl⟩
        replace h := h v_19 e_v_19
        refine lv_iinc (v := v_19) (lv' := [(2, .int v_19), (0, .ref a0), (1, .ref a1)]) hx hb dX1_nothing_18 hl (k := 2) rfl (by rw [kc_1, e_v_19]) (by decide) rfl (fun ls hl => ?_)
        refine lv_goto (tgt := 2) hx hb dX1_nothing_21 (by decide) ?_
        exact ih _ _ _ _ _ hV hS (lv_sub hl [1, 2, 0] rfl) h
  unfold vX1_nothing at h
  refine lv_iconst hx hb dX1_nothing_0 kc_0 ?_
  refine lv_istore_n (lv' := [(2, .int (0 : Int32)), (0, .ref a0), (1, .ref a1)]) hx hb dX1_nothing_1 rfl hl (by decide) rfl (fun ls hl => ?_)
  obtain ⟨f, h⟩ := h
  exact L2 f _ _ _ _ _ hV hS (lv_sub hl [1, 2, 0] rfl) h
def vX7_off (cA : Nat → ClassId) (a0 : Nat) (a1 : Int32) (V : VS) (Post : Int32 → VS → Prop) : Prop := bO (vO V [6] a0) (fun o_3 => vX7_lastOff cA a0 a1 V (fun r_1 V_2 => bO (gI V_2 [6] a0 2) (fun g_5 => ∀ v_7 : Int32, v_7 = (if (0 : Int32) < ((r_1 - g_5) + (1 : Int32)) then ((r_1 - g_5) + (1 : Int32)) else (0 : Int32)) → Post v_7 V_2)))
abbrev rX7_off : Room := { frames := 2, cells := 0, slots := 0, locals := 45 }
theorem cdX7_off : yX7_off.cls = RX7 ∧ yX7_off.cls ≠ "java/lang/invoke/MethodHandle" ∧ yX7_off.cls ≠ "java/lang/invoke/VarHandle" ∧ (parseMethodDescriptor yX7_off.desc).map (fun d => d.parameters.length) = some 1 := by decide +kernel
set_option maxHeartbeats 4000000 in
set_option maxRecDepth 100000 in
theorem mvX7_off (l : Launch) {D : va_G} {cA : Nat → ClassId} {A : Nat → Prop} (a0 : Nat) (a1 : Int32) (V : VS) (Post : Int32 → VS → Prop) (h : vX7_off cA a0 a1 V Post) : Met l yX7_off (ws_ yX7_off cX7_off 2 (some (.int))) rX7_off (vPc [.ref a0, .int a1] D cA A V) (va_Qi Post (vB D A) A) 0 0 A := by
  refine vstM (own := RX7) (by decide) rfl (Nat.le_of_ble_eq_true rfl) ?_
  intro p e s m args below meth c ls X hret hV hS hl
  obtain ⟨S, hK, hG, hA, hnm, hlocks⟩ := X
  have hx := S.1
  have hb := S.2.1
  have hl : lv_has ls 2 [(0, .ref a0), (1, .int a1)] := hl
  unfold vX7_off at h
  refine lv_iconst hx hb dX7_off_0 kc_0 ?_
  refine lv_aload_n hx hb dX7_off_1 rfl (lv_at hl 0 rfl) ?_
  refine lv_iload_n hx hb dX7_off_2 rfl (lv_at hl 1 rfl) ?_
  obtain ⟨o_3, e_4, h⟩ := bO_e h
  refine vk_i (vr_V (As := [.int a1]) (rest := [.int (0 : Int32)]) S hK hG hA hV hS e_4 rfl (mvX7_lastOff l a0 a1 V _ h) (cwV 1 S.2.2.2.2 (lw_V q1221 q1090 q1091 q160 q1092) rfl rfl rfl cdX7_lastOff ⟨Nat.le_of_ble_eq_true rfl, Nat.le_of_ble_eq_true rfl⟩) rfl hl.1 (Nat.le_of_ble_eq_true rfl) dX7_off_3 ⟨Nat.le_refl _, Nat.le_refl _⟩) hS (fun r_1 V_2 H locs h hV hS => ?_)
  refine lv_aload_n hx hb dX7_off_6 rfl (lv_at hl 0 rfl) ?_
  obtain ⟨g_5, e_6, h⟩ := bO_e h
  refine vg_i S hK hV fX7_21 e_6 dX7_off_7 ?_
  refine lv_isub hx hb dX7_off_10 ?_
  refine lv_iconst hx hb dX7_off_11 kc_1 ?_
  refine lv_iadd hx hb dX7_off_12 ?_
  refine va_mmax hx hb (S.2.2.1.trans hl.1.symm) S.2.2.2.1 (S.2.2.2.2 _ q1222) (S.2.2.2.2 _ q464) (S.2.2.2.2 _ q150) (S.2.2.2.2 _ q465) (Nat.le_of_ble_eq_true rfl) (Nat.le_of_ble_eq_true rfl) (Nat.le_refl _) (Nat.le_refl _) dX7_off_13 ?_
  refine lv_topi (fun v_7 e_v_7 => ?_)
  replace h := h v_7 e_v_7
  exact ve_i S hlocks hret hV hS h rfl (Nat.le_refl _) (Nat.le_refl _) dX7_off_16
def vX1_countAsks_c77 (cA : Nat → ClassId) (a0 : Nat) (a1 : Int32) (a2 : Int32) (a3 : Int32) (k3 : Int32 → VS → Prop) (Post : VS → Prop) (x4 : Int32) (V : VS) : Prop := ∀ v_7 : Int32, v_7 = x4 + (1 : Int32) → k3 v_7 V
def vX1_countAsks_c75 (cA : Nat → ClassId) (a0 : Nat) (a1 : Int32) (a2 : Int32) (a3 : Int32) (k3 : Int32 → VS → Prop) (Post : VS → Prop) (x4 : Int32) (t0 : Int64) (t1 : Int64) (t2 : Int32) (t3 : Nat) (V : VS) : Prop := bO (tJ V (cA 2) t3 t2 (t1 + t0)) (fun V_37 => vX1_countAsks_c77 cA a0 a1 a2 a3 k3 Post x4 V_37)
def vX1_countAsks_l3 (cA : Nat → ClassId) (a0 : Nat) (a1 : Int32) (a2 : Int32) (a3 : Int32) (Post : VS → Prop) : Nat → Int32 → VS → Prop
  | 0, _, _ => False
  | n + 1, x4, V => (a2 ≤ x4 → (Post V)) ∧ (¬ (a2 ≤ x4) → (bO (vO V [1] a0) (fun o_4 => vX1_heard cA a0 x4 a1 (-1 : Int32) V (fun p_2 V_3 => (p_2 = none → (vX1_countAsks_c77 cA a0 a1 a2 a3 (vX1_countAsks_l3 cA a0 a1 a2 a3 Post n) Post x4 V_3)) ∧ (∀ n_6 : Nat, p_2 = some n_6 → (∀ K_10 : Int32 → VS → Prop, K_10 = (fun r_8 V_9 => (r_8 = 0 → (bO (vO V_9 [1] a0) (fun o_16 => vX1_counts cA a0 n_6 a3 V_9 (fun r_14 V_15 => (r_14 = 0 → (vX1_countAsks_c77 cA a0 a1 a2 a3 (vX1_countAsks_l3 cA a0 a1 a2 a3 Post n) Post x4 V_15)) ∧ (¬ (r_14 = 0) → (bO (gR V_15 [1] a0 12) (fun p_19 => bO p_19 (fun n_21 => bO (lJ V_15 (cA 2) n_21 (3 : Int32)) (fun g_22 => bO (tJ V_15 (cA 2) n_21 (3 : Int32) (g_22 + (1 : Int64))) (fun V_24 => bO (gR V_24 [1] a0 12) (fun p_26 => bO p_26 (fun n_28 => bO (lJ V_24 (cA 2) n_28 (4 : Int32)) (fun g_29 => ∀ K_33 : Int32 → VS → Prop, K_33 = (fun r_31 V_32 => (r_31 = 0 → (vX1_countAsks_c75 cA a0 a1 a2 a3 (vX1_countAsks_l3 cA a0 a1 a2 a3 Post n) Post x4 (0 : Int64) g_29 (4 : Int32) n_28 V_32)) ∧ (¬ (r_31 = 0) → (vX1_countAsks_c75 cA a0 a1 a2 a3 (vX1_countAsks_l3 cA a0 a1 a2 a3 Post n) Post x4 (1 : Int64) g_29 (4 : Int32) n_28 V_32))) → bO (vO V_24 [7, 8] n_6) (fun o_34 => (o_34.1 = 7 → vX8_isPut cA n_6 V_24 K_33) ∧ (¬ o_34.1 = 7 → vX10_isPut cA n_6 V_24 K_33))))))))))))))) ∧ (¬ (r_8 = 0) → (vX1_countAsks_c77 cA a0 a1 a2 a3 (vX1_countAsks_l3 cA a0 a1 a2 a3 Post n) Post x4 V_9))) → bO (vO V_3 [7, 8] n_6) (fun o_11 => (o_11.1 = 7 → vX9_isWord cA n_6 V_3 K_10) ∧ (¬ o_11.1 = 7 → vX8_isWord cA n_6 V_3 K_10))))))))
def vX1_countAsks (cA : Nat → ClassId) (a0 : Nat) (a1 : Int32) (a2 : Int32) (a3 : Int32) (V : VS) (Post : VS → Prop) : Prop := ∃ f, vX1_countAsks_l3 cA a0 a1 a2 a3 Post f (0 : Int32) V
abbrev rX1_countAsks : Room := { frames := 4, cells := 0, slots := 0, locals := 88 }
theorem cdX1_countAsks : yX1_countAsks.cls = RX1 ∧ yX1_countAsks.cls ≠ "java/lang/invoke/MethodHandle" ∧ yX1_countAsks.cls ≠ "java/lang/invoke/VarHandle" ∧ (parseMethodDescriptor yX1_countAsks.desc).map (fun d => d.parameters.length) = some 3 := by decide +kernel
set_option maxHeartbeats 4000000 in
set_option maxRecDepth 100000 in
theorem mvX1_countAsks (l : Launch) {D : va_G} {cA : Nat → ClassId} {A : Nat → Prop} (a0 : Nat) (a1 : Int32) (a2 : Int32) (a3 : Int32) (V : VS) (Post : VS → Prop) (h : vX1_countAsks cA a0 a1 a2 a3 V Post) : Met l yX1_countAsks (ws_ yX1_countAsks cX1_countAsks 6 none) rX1_countAsks (vPc [.ref a0, .int a1, .int a2, .int a3] D cA A V) (va_Qv Post (vB D A) A) 0 0 A := by
  refine vstM (own := RX1) (by decide) rfl (Nat.le_of_ble_eq_true rfl) ?_
  intro p e s m args below meth c ls X hret hV hS hl
  obtain ⟨S, hK, hG, hA, hnm, hlocks⟩ := X
  have hx := S.1
  have hb := S.2.1
  have hl : lv_has ls 6 [(0, .ref a0), (1, .int a1), (2, .int a2), (3, .int a3)] := hl
  have C77 : ∀ (k3 : Int32 → VS → Prop) (K3 : (∀ (x4 : Int32) (V : VS) (H : Heap) (locs : List Loc) (ls : Array Slot), HV D A V H → va_S A s.heap H locs → lv_has ls 6 [(0, .ref a0), (1, .int a1), (2, .int a2), (3, .int a3), (4, .int x4)] → k3 x4 V → W p l e rX1_countAsks s m args below meth c H locs 0 0 (MQ below (va_Qv Post (vB D A) A) args s 0 0 A) (F0 m 3 ls []))), ∀ (x4 : Int32) (V : VS) (H : Heap) (locs : List Loc) (ls : Array Slot), HV D A V H → va_S A s.heap H locs → lv_has ls 6 [(0, .ref a0), (1, .int a1), (2, .int a2), (3, .int a3), (4, .int x4)] → vX1_countAsks_c77 cA a0 a1 a2 a3 k3 Post x4 V → W p l e rX1_countAsks s m args below meth c H locs 0 0 (MQ below (va_Qv Post (vB D A) A) args s 0 0 A) (F0 m 77 ls []) := by
    intro k3 K3
    intro x4 V H locs ls hV hS hl h
    unfold vX1_countAsks_c77 at h
    obtain ⟨v_7, e_v_7⟩ : ∃ y : Int32, y = x4 + (1 : Int32) := ⟨_, rfl⟩
    replace h := h v_7 e_v_7
    refine lv_iinc (v := v_7) (lv' := [(4, .int v_7), (0, .ref a0), (1, .int a1), (2, .int a2), (3, .int a3)]) hx hb dX1_countAsks_77 hl (k := 4) rfl (by rw [kc_1, e_v_7]) (by decide) rfl (fun ls hl => ?_)
    refine lv_goto (tgt := 3) hx hb dX1_countAsks_80 (by decide) ?_
    exact K3 _ _ _ _ _ hV hS (lv_sub hl [1, 2, 3, 4, 0] rfl) h
  have C75 : ∀ (k3 : Int32 → VS → Prop) (K3 : (∀ (x4 : Int32) (V : VS) (H : Heap) (locs : List Loc) (ls : Array Slot), HV D A V H → va_S A s.heap H locs → lv_has ls 6 [(0, .ref a0), (1, .int a1), (2, .int a2), (3, .int a3), (4, .int x4)] → k3 x4 V → W p l e rX1_countAsks s m args below meth c H locs 0 0 (MQ below (va_Qv Post (vB D A) A) args s 0 0 A) (F0 m 3 ls []))), ∀ (x4 : Int32) (t0 : Int64) (t1 : Int64) (t2 : Int32) (t3 : Nat) (V : VS) (H : Heap) (locs : List Loc) (ls : Array Slot), HV D A V H → va_S A s.heap H locs → lv_has ls 6 [(0, .ref a0), (1, .int a1), (2, .int a2), (3, .int a3), (4, .int x4)] → vX1_countAsks_c75 cA a0 a1 a2 a3 k3 Post x4 t0 t1 t2 t3 V → W p l e rX1_countAsks s m args below meth c H locs 0 0 (MQ below (va_Qv Post (vB D A) A) args s 0 0 A) (F0 m 75 ls [.long t0, .long t1, .int t2, .ref t3]) := by
    intro k3 K3
    intro x4 t0 t1 t2 t3 V H locs ls hV hS hl h
    unfold vX1_countAsks_c75 at h
    refine lv_ladd hx hb dX1_countAsks_75 ?_
    obtain ⟨V_37, e_38, h⟩ := bO_e h
    refine vs_l S hK hV hS e_38 dX1_countAsks_76 (fun H locs hV hS => ?_)
    exact C77 _ K3 _ _ _ _ _ hV hS (lv_sub hl [0, 1, 2, 3, 4] rfl) h
  have L3 : ∀ (n : Nat) (x4 : Int32) (V : VS) (H : Heap) (locs : List Loc) (ls : Array Slot), HV D A V H → va_S A s.heap H locs → lv_has ls 6 [(0, .ref a0), (1, .int a1), (2, .int a2), (3, .int a3), (4, .int x4)] → vX1_countAsks_l3 cA a0 a1 a2 a3 Post n x4 V → W p l e rX1_countAsks s m args below meth c H locs 0 0 (MQ below (va_Qv Post (vB D A) A) args s 0 0 A) (F0 m 3 ls []) := by
    intro n
    induction n with
    | zero => intro x4 V H locs ls hV hS hl h; rw [vX1_countAsks_l3] at h; exact h.elim
    | succ n ih =>
      intro x4 V H locs ls hV hS hl h
      rw [vX1_countAsks_l3] at h
      refine lv_iload hx hb dX1_countAsks_3 (lv_at hl 4 rfl) ?_
      refine lv_iload_n hx hb dX1_countAsks_5 rfl (lv_at hl 2 rfl) ?_
      refine lv_icmp_ge (tgt := 83) hx hb dX1_countAsks_6 (by decide) (fun c_1 => ?_) (fun c_1 => ?_)
      · replace h := h.1 c_1
        exact ve_v S hlocks hret hV hS h (Nat.le_refl _) (Nat.le_refl _) dX1_countAsks_83
      · replace h := h.2 c_1
        refine lv_aload_n hx hb dX1_countAsks_9 rfl (lv_at hl 0 rfl) ?_
        refine lv_iload hx hb dX1_countAsks_10 (lv_at hl 4 rfl) ?_
        refine lv_iload_n hx hb dX1_countAsks_12 rfl (lv_at hl 1 rfl) ?_
        refine lv_iconst hx hb dX1_countAsks_13 kc_m1 ?_
        obtain ⟨o_4, e_5, h⟩ := bO_e h
        refine vk_q (vr_V (As := [.int x4, .int a1, .int (-1 : Int32)]) (rest := []) S hK hG hA hV hS e_5 rfl (mvX1_heard l a0 x4 a1 (-1 : Int32) V _ h) (cwV 3 S.2.2.2.2 (lw_V q1052 q1054 qs39 q139 q1055) rfl rfl rfl cdX1_heard ⟨Nat.le_of_ble_eq_true rfl, Nat.le_of_ble_eq_true rfl⟩) rfl hl.1 (Nat.le_of_ble_eq_true rfl) dX1_countAsks_14 ⟨Nat.le_refl _, Nat.le_refl _⟩) hS (fun p_2 V_3 H locs h hV hS => ?_)
        refine lv_astoreQ (r := p_2) (lv' := [(5, va_rf p_2), (0, .ref a0), (1, .int a1), (2, .int a2), (3, .int a3), (4, .int x4)]) hx hb dX1_countAsks_17 hl (by decide) rfl (fun ls hl => ?_)
        refine lv_aloadQ hx hb dX1_countAsks_19 (lv_at hl 0 rfl) ?_
        rcases p_2 with _ | n_6
        · replace h := h.1 rfl
          refine lv_ifnullN (tgt := 77) hx hb dX1_countAsks_21 (by decide) ?_
          exact C77 _ ih _ _ _ _ _ hV hS (lv_sub hl [1, 2, 3, 4, 5] rfl) h
        · replace h := h.2 n_6 rfl
          refine lv_ifnull hx hb dX1_countAsks_21 ?_
          refine lv_aload hx hb dX1_countAsks_24 (lv_at hl 0 rfl) ?_
          obtain ⟨K_10, e_K_10⟩ : ∃ y : Int32 → VS → Prop, y = (fun r_8 V_9 => (r_8 = 0 → (bO (vO V_9 [1] a0) (fun o_16 => vX1_counts cA a0 n_6 a3 V_9 (fun r_14 V_15 => (r_14 = 0 → (vX1_countAsks_c77 cA a0 a1 a2 a3 (vX1_countAsks_l3 cA a0 a1 a2 a3 Post n) Post x4 V_15)) ∧ (¬ (r_14 = 0) → (bO (gR V_15 [1] a0 12) (fun p_19 => bO p_19 (fun n_21 => bO (lJ V_15 (cA 2) n_21 (3 : Int32)) (fun g_22 => bO (tJ V_15 (cA 2) n_21 (3 : Int32) (g_22 + (1 : Int64))) (fun V_24 => bO (gR V_24 [1] a0 12) (fun p_26 => bO p_26 (fun n_28 => bO (lJ V_24 (cA 2) n_28 (4 : Int32)) (fun g_29 => ∀ K_33 : Int32 → VS → Prop, K_33 = (fun r_31 V_32 => (r_31 = 0 → (vX1_countAsks_c75 cA a0 a1 a2 a3 (vX1_countAsks_l3 cA a0 a1 a2 a3 Post n) Post x4 (0 : Int64) g_29 (4 : Int32) n_28 V_32)) ∧ (¬ (r_31 = 0) → (vX1_countAsks_c75 cA a0 a1 a2 a3 (vX1_countAsks_l3 cA a0 a1 a2 a3 Post n) Post x4 (1 : Int64) g_29 (4 : Int32) n_28 V_32))) → bO (vO V_24 [7, 8] n_6) (fun o_34 => (o_34.1 = 7 → vX8_isPut cA n_6 V_24 K_33) ∧ (¬ o_34.1 = 7 → vX10_isPut cA n_6 V_24 K_33))))))))))))))) ∧ (¬ (r_8 = 0) → (vX1_countAsks_c77 cA a0 a1 a2 a3 (vX1_countAsks_l3 cA a0 a1 a2 a3 Post n) Post x4 V_9))) := ⟨_, rfl⟩
          replace h := h K_10 e_K_10
          obtain ⟨o_11, e_12, h⟩ := bO_e h
          have hm := (vO_e e_12).2
          simp only [List.mem_cons, List.not_mem_nil, or_false] at hm
          have KK : ∀ (r_8 : Int32) (V_9 : VS) (H1 : Heap) (locs1 : List Loc), K_10 r_8 V_9 → HV D A V_9 H1 → va_S A s.heap H1 locs1 → W p l e rX1_countAsks s m args below meth c H1 locs1 (0) (0) (MQ below (va_Qv Post (vB D A) A) args s 0 0 A) (F0 m 29 ls (.int r_8 :: [])) := by
            intro r_8 V_9 H locs h hV hS
            rw [e_K_10] at h
            refine lv_if_ne (tgt := 77) hx hb dX1_countAsks_29 (by decide) (fun c_13 => ?_) (fun c_13 => ?_)
            · replace h := h.2 c_13
              exact C77 _ ih _ _ _ _ _ hV hS (lv_sub hl [1, 2, 3, 4, 5] rfl) h
            · replace h := h.1 c_13
              refine lv_aload_n hx hb dX1_countAsks_32 rfl (lv_at hl 1 rfl) ?_
              refine lv_aload hx hb dX1_countAsks_33 (lv_at hl 0 rfl) ?_
              refine lv_iload_n hx hb dX1_countAsks_35 rfl (lv_at hl 4 rfl) ?_
              obtain ⟨o_16, e_17, h⟩ := bO_e h
              refine vk_i (vr_V (As := [.ref n_6, .int a3]) (rest := []) S hK hG hA hV hS e_17 rfl (mvX1_counts l a0 n_6 a3 V_9 _ h) (cwV 2 S.2.2.2.2 (lw_V q1056 q1058 qs40 q139 q1059) rfl rfl rfl cdX1_counts ⟨Nat.le_of_ble_eq_true rfl, Nat.le_of_ble_eq_true rfl⟩) rfl hl.1 (Nat.le_of_ble_eq_true rfl) dX1_countAsks_36 ⟨Nat.le_refl _, Nat.le_refl _⟩) hS (fun r_14 V_15 H locs h hV hS => ?_)
              refine lv_if_ne (tgt := 45) hx hb dX1_countAsks_39 (by decide) (fun c_18 => ?_) (fun c_18 => ?_)
              · replace h := h.2 c_18
                refine lv_aload_n hx hb dX1_countAsks_45 rfl (lv_at hl 1 rfl) ?_
                obtain ⟨p_19, e_20, h⟩ := bO_e h
                refine vg_r S hK hV fX1_53 e_20 dX1_countAsks_46 ?_
                refine lv_iconst hx hb dX1_countAsks_49 kc_3 ?_
                obtain ⟨n_21, z_n_21, h9⟩ := bO_e h
                clear h; subst z_n_21; have h := h9; clear h9
                refine lv_dup2_11 hx hb dX1_countAsks_50 rfl rfl ?_
                obtain ⟨g_22, e_23, h⟩ := bO_e h
                refine vl_l S hK hV e_23 dX1_countAsks_51 ?_
                refine lv_lconst (v := 1) hx hb dX1_countAsks_52 rfl ?_
                refine lv_ladd hx hb dX1_countAsks_53 ?_
                obtain ⟨V_24, e_25, h⟩ := bO_e h
                refine vs_l S hK hV hS e_25 dX1_countAsks_54 (fun H locs hV hS => ?_)
                refine lv_aload_n hx hb dX1_countAsks_55 rfl (lv_at hl 1 rfl) ?_
                obtain ⟨p_26, e_27, h⟩ := bO_e h
                refine vg_r S hK hV fX1_53 e_27 dX1_countAsks_56 ?_
                refine lv_iconst hx hb dX1_countAsks_59 kc_4 ?_
                obtain ⟨n_28, z_n_28, h9⟩ := bO_e h
                clear h; subst z_n_28; have h := h9; clear h9
                refine lv_dup2_11 hx hb dX1_countAsks_60 rfl rfl ?_
                obtain ⟨g_29, e_30, h⟩ := bO_e h
                refine vl_l S hK hV e_30 dX1_countAsks_61 ?_
                refine lv_aload hx hb dX1_countAsks_62 (lv_at hl 0 rfl) ?_
                obtain ⟨K_33, e_K_33⟩ : ∃ y : Int32 → VS → Prop, y = (fun r_31 V_32 => (r_31 = 0 → (vX1_countAsks_c75 cA a0 a1 a2 a3 (vX1_countAsks_l3 cA a0 a1 a2 a3 Post n) Post x4 (0 : Int64) g_29 (4 : Int32) n_28 V_32)) ∧ (¬ (r_31 = 0) → (vX1_countAsks_c75 cA a0 a1 a2 a3 (vX1_countAsks_l3 cA a0 a1 a2 a3 Post n) Post x4 (1 : Int64) g_29 (4 : Int32) n_28 V_32))) := ⟨_, rfl⟩
                replace h := h K_33 e_K_33
                obtain ⟨o_34, e_35, h⟩ := bO_e h
                have hm := (vO_e e_35).2
                simp only [List.mem_cons, List.not_mem_nil, or_false] at hm
                have KK : ∀ (r_31 : Int32) (V_32 : VS) (H1 : Heap) (locs1 : List Loc), K_33 r_31 V_32 → HV D A V_32 H1 → va_S A s.heap H1 locs1 → W p l e rX1_countAsks s m args below meth c H1 locs1 (0) (0) (MQ below (va_Qv Post (vB D A) A) args s 0 0 A) (F0 m 67 ls (.int r_31 :: [.long g_29, .int (4 : Int32), .ref n_28])) := by
                  intro r_31 V_32 H locs h hV hS
                  rw [e_K_33] at h
                  refine lv_if_eq (tgt := 74) hx hb dX1_countAsks_67 (by decide) (fun c_36 => ?_) (fun c_36 => ?_)
                  · replace h := h.1 c_36
                    refine lv_lconst (v := 0) hx hb dX1_countAsks_74 rfl ?_
                    exact C75 _ ih _ _ _ _ _ _ _ _ _ hV hS (lv_sub hl [1, 2, 3, 4, 5] rfl) h
                  · replace h := h.2 c_36
                    refine lv_lconst (v := 1) hx hb dX1_countAsks_70 rfl ?_
                    refine lv_goto (tgt := 75) hx hb dX1_countAsks_71 (by decide) ?_
                    exact C75 _ ih _ _ _ _ _ _ _ _ _ hV hS (lv_sub hl [1, 2, 3, 4, 5] rfl) h
                by_cases OC0 : o_34.1 = 7
                · replace h := h.1 OC0
                  exact vk_i (vr_U (As := []) (rest := [.long g_29, .int (4 : Int32), .ref n_28]) S hK hG hA hV hS e_35 OC0 rfl (mvX8_isPut l n_6 V_24 _ h) (va_cwU 0 S.2.2.2.2 (lw_U q1068 q1070 q1074 q1069 q161 q1075) rfl rfl rfl rfl (by decide +kernel) ⟨Nat.le_of_ble_eq_true rfl, Nat.le_of_ble_eq_true rfl⟩) rfl hl.1 (Nat.le_of_ble_eq_true rfl) dX1_countAsks_64 ⟨Nat.le_refl _, Nat.le_refl _⟩) hS KK
                · replace h := h.2 OC0
                  have OC1 : o_34.1 = 8 := by omega
                  exact vk_i (vr_U (As := []) (rest := [.long g_29, .int (4 : Int32), .ref n_28]) S hK hG hA hV hS e_35 OC1 rfl (mvX10_isPut l n_6 V_24 _ h) (va_cwO 0 S.2.2.2.2 (lw_O q1068 q1070 q1069 q1071 q1072 q163 q1073) rfl rfl rfl q1075 (by decide +kernel) ⟨Nat.le_of_ble_eq_true rfl, Nat.le_of_ble_eq_true rfl⟩) rfl hl.1 (Nat.le_of_ble_eq_true rfl) dX1_countAsks_64 ⟨Nat.le_refl _, Nat.le_refl _⟩) hS KK
              · replace h := h.1 c_18
                refine lv_goto (tgt := 77) hx hb dX1_countAsks_42 (by decide) ?_
                exact C77 _ ih _ _ _ _ _ hV hS (lv_sub hl [1, 2, 3, 4, 5] rfl) h
          by_cases OC0 : o_11.1 = 7
          · replace h := h.1 OC0
            exact vk_i (vr_U (As := []) (rest := []) S hK hG hA hV hS e_12 OC0 rfl (mvX9_isWord l n_6 V_3 _ h) (va_cwO 0 S.2.2.2.2 (lw_O q984 q986 q985 q988 q989 q162 q990) rfl rfl rfl q991 (by decide +kernel) ⟨Nat.le_of_ble_eq_true rfl, Nat.le_of_ble_eq_true rfl⟩) rfl hl.1 (Nat.le_of_ble_eq_true rfl) dX1_countAsks_26 ⟨Nat.le_refl _, Nat.le_refl _⟩) hS KK
          · replace h := h.2 OC0
            have OC1 : o_11.1 = 8 := by omega
            exact vk_i (vr_U (As := []) (rest := []) S hK hG hA hV hS e_12 OC1 rfl (mvX8_isWord l n_6 V_3 _ h) (va_cwU 0 S.2.2.2.2 (lw_U q984 q986 q987 q985 q161 q991) rfl rfl rfl rfl (by decide +kernel) ⟨Nat.le_of_ble_eq_true rfl, Nat.le_of_ble_eq_true rfl⟩) rfl hl.1 (Nat.le_of_ble_eq_true rfl) dX1_countAsks_26 ⟨Nat.le_refl _, Nat.le_refl _⟩) hS KK
  unfold vX1_countAsks at h
  refine lv_iconst hx hb dX1_countAsks_0 kc_0 ?_
  refine lv_istore (lv' := [(4, .int (0 : Int32)), (0, .ref a0), (1, .int a1), (2, .int a2), (3, .int a3)]) hx hb dX1_countAsks_1 hl (by decide) rfl (fun ls hl => ?_)
  obtain ⟨f, h⟩ := h
  exact L3 f _ _ _ _ _ hV hS (lv_sub hl [1, 2, 3, 4, 0] rfl) h
