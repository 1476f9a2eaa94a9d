def vJ0_init (cA : Nat → ClassId) (a0 : Nat) (V : VS) (Post : VS → Prop) : Prop := Post V
abbrev rJ0_init : Room := { frames := 1, cells := 0, slots := 0, locals := 24 }
theorem cdJ0_init : yJ0_init.cls ≠ "java/lang/invoke/MethodHandle" ∧ yJ0_init.cls ≠ "java/lang/invoke/VarHandle" ∧ (parseMethodDescriptor yJ0_init.desc).map (fun d => d.parameters.length) = some 0 := by decide +kernel
set_option maxHeartbeats 4000000 in
set_option maxRecDepth 100000 in
theorem mvJ0_init (l : Launch) {D : va_G} {cA : Nat → ClassId} {A : Nat → Prop} (a0 : Nat) (V : VS) (Post : VS → Prop) (h : vJ0_init cA a0 V Post) : Met l yJ0_init (ws_ yJ0_init cJ0_init 1 none) rJ0_init (vPc [.ref a0] D cA A V) (va_Qv Post (vB D A) A) 0 0 A := by
  refine vstM (own := RJ0) (by decide) rfl (Nat.le_of_ble_eq_true rfl) ?_
  intro p e s m args below meth c ls X hret hV hS hl
  obtain ⟨S, hK, hG, hA, hnm, hlocks⟩ := X
  have hx := S.1
  have hb := S.2.1
  have hl : lv_has ls 1 [(0, .ref a0)] := hl
  unfold vJ0_init at h
  refine lv_aload_n hx hb dJ0_init_0 rfl (lv_at hl 0 rfl) ?_
  refine W.objInit hx hb S.2.2.2.1 (S.2.2.2.2 _ q232) (S.2.2.2.2 _ q181) (S.2.2.2.2 _ q182) rfl (hl.1.trans S.2.2.1.symm) rfl dJ0_init_1 (Nat.le_of_ble_eq_true rfl) (Nat.le_of_ble_eq_true rfl) ?_
  refine W.eq (g2 := F0 m 4 ls []) rfl ?_
  exact ve_v S hlocks hret hV hS h (Nat.le_refl _) (Nat.le_refl _) dJ0_init_4
def vJ1_init (cA : Nat → ClassId) (a0 : Nat) (V : VS) (Post : VS → Prop) : Prop := vJ0_init cA a0 V (fun V_2 => bO (pF V_2 [14] a0 0 (.int (0 : Int32))) (fun V_3 => Post V_3))
abbrev rJ1_init : Room := { frames := 2, cells := 0, slots := 0, locals := 44 }
theorem cdJ1_init : yJ1_init.cls ≠ "java/lang/invoke/MethodHandle" ∧ yJ1_init.cls ≠ "java/lang/invoke/VarHandle" ∧ (parseMethodDescriptor yJ1_init.desc).map (fun d => d.parameters.length) = some 0 := by decide +kernel
set_option maxHeartbeats 4000000 in
set_option maxRecDepth 100000 in
theorem mvJ1_init (l : Launch) {D : va_G} {cA : Nat → ClassId} {A : Nat → Prop} (a0 : Nat) (V : VS) (Post : VS → Prop) (h : vJ1_init cA a0 V Post) : Met l yJ1_init (ws_ yJ1_init cJ1_init 1 none) rJ1_init (vPc [.ref a0] D cA A V) (va_Qv Post (vB D A) A) 0 0 A := by
  refine vstM (own := RJ1) (by decide) rfl (Nat.le_of_ble_eq_true rfl) ?_
  intro p e s m args below meth c ls X hret hV hS hl
  obtain ⟨S, hK, hG, hA, hnm, hlocks⟩ := X
  have hx := S.1
  have hb := S.2.1
  have hl : lv_has ls 1 [(0, .ref a0)] := hl
  unfold vJ1_init at h
  refine lv_aload_n hx hb dJ1_init_0 rfl (lv_at hl 0 rfl) ?_
  refine vk_v (vr_I (As := []) (rest := []) S hK hG hA hV hS (mvJ0_init l a0 V _ h) (cwI 0 S.2.2.2.2 (lw_meth q231) rfl rfl rfl (S.2.2.2.2 _ q142) (S.2.2.2.2 _ q229) (S.2.2.2.2 _ q230) rfl cdJ0_init ⟨Nat.le_of_ble_eq_true rfl, Nat.le_of_ble_eq_true rfl⟩) rfl hl.1 (Nat.le_of_ble_eq_true rfl) dJ1_init_1 ⟨Nat.le_refl _, Nat.le_refl _⟩) hS (fun V_2 H locs h hV hS => ?_)
  refine lv_aload_n hx hb dJ1_init_4 rfl (lv_at hl 0 rfl) ?_
  refine lv_iconst hx hb dJ1_init_5 kc_0 ?_
  obtain ⟨V_3, e_4, h⟩ := bO_e h
  refine vp_v (v := .int (0 : Int32)) S hK hV hS fJ1_7 (Or.inl rfl) rfl rfl e_4 dJ1_init_6 (fun H locs hV hS => ?_)
  exact ve_v S hlocks hret hV hS h (Nat.le_refl _) (Nat.le_refl _) dJ1_init_9
def vJ2_init (cA : Nat → ClassId) (a0 : Nat) (a1 : Int32) (V : VS) (MC MS : Nat) (Post : VS → Prop) : Prop := vJ1_init cA a0 V (fun V_2 => (a1 ≤ 0 → ((a1 = 0 → (False)) ∧ (¬ (a1 = 0) → (False)))) ∧ (¬ (a1 ≤ 0) → ((¬ a1 < 0 ∧ 0 + 1 ≤ MC ∧ 0 + a1.toNatClampNeg ≤ MS ∧ a1.toNatClampNeg * 4 ≤ 536870912 ∧ ∀ (q_6 : Nat) (V_7 : VS), V_2 q_6 = none → V_7 = vU V_2 q_6 (.inl (cA 4, a1.toNatClampNeg, .inr (.inr (.inr (.inr (fun _ => none)))))) → bO (pF V_7 [14] a0 1 (.ref q_6)) (fun V_8 => Post V_8)))))
abbrev rJ2_init (MC MS : Nat) : Room := { frames := 3, cells := MC, slots := MS, locals := 64 }
theorem cdJ2_init : yJ2_init.cls ≠ "java/lang/invoke/MethodHandle" ∧ yJ2_init.cls ≠ "java/lang/invoke/VarHandle" ∧ (parseMethodDescriptor yJ2_init.desc).map (fun d => d.parameters.length) = some 1 := by decide +kernel
set_option maxHeartbeats 4000000 in
set_option maxRecDepth 100000 in
theorem mvJ2_init (l : Launch) {D : va_G} {cA : Nat → ClassId} {A : Nat → Prop} (a0 : Nat) (a1 : Int32) (V : VS) (MC MS : Nat) (Post : VS → Prop) (h : vJ2_init cA a0 a1 V MC MS Post) : Met l yJ2_init (ws_ yJ2_init cJ2_init 2 none) (rJ2_init MC MS) (vPc [.ref a0, .int a1] D cA A V) (va_Qv Post (vB D A) A) MC MS A := by
  refine vstM (own := RJ2) (by decide) rfl (Nat.le_of_ble_eq_true rfl) ?_
  intro p e s m args below meth c ls X hret hV hS hl
  obtain ⟨S, hK, hG, hA, hnm, hlocks⟩ := X
  have hx := S.1
  have hb := S.2.1
  have hk : 0 ≤ MC ∧ 0 ≤ MS := ⟨Nat.zero_le _, Nat.zero_le _⟩
  have hl : lv_has ls 2 [(0, .ref a0), (1, .int a1)] := hl
  unfold vJ2_init at h
  refine lv_aload_n hx hb dJ2_init_0 rfl (lv_at hl 0 rfl) ?_
  refine vk_v (vr_I (As := []) (rest := []) S hK hG hA hV hS (mvJ1_init l a0 V _ h) (cwI 0 S.2.2.2.2 (lw_meth q228) rfl rfl rfl (S.2.2.2.2 _ q143) (S.2.2.2.2 _ q226) (S.2.2.2.2 _ q227) rfl cdJ1_init ⟨Nat.le_of_ble_eq_true rfl, Nat.le_of_ble_eq_true rfl⟩) rfl hl.1 (Nat.le_of_ble_eq_true rfl) dJ2_init_1 ⟨hk.1, hk.2⟩) hS (fun V_2 H locs h hV hS => ?_)
  refine lv_iload_n hx hb dJ2_init_4 rfl (lv_at hl 1 rfl) ?_
  refine lv_if_le (tgt := 19) hx hb dJ2_init_5 (by decide) (fun c_3 => ?_) (fun c_3 => ?_)
  · replace h := h.1 c_3
    refine lv_iload_n hx hb dJ2_init_19 rfl (lv_at hl 1 rfl) ?_
    refine lv_if_ne (tgt := 33) hx hb dJ2_init_20 (by decide) (fun c_4 => ?_) (fun c_4 => ?_)
    · replace h := h.2 c_4
      exact h.elim
    · replace h := h.1 c_4
      refine lv_aload_n hx hb dJ2_init_23 rfl (lv_at hl 0 rfl) ?_
      exact h.elim
  · replace h := h.2 c_3
    refine lv_aload_n hx hb dJ2_init_8 rfl (lv_at hl 0 rfl) ?_
    refine lv_iload_n hx hb dJ2_init_9 rfl (lv_at hl 1 rfl) ?_
    obtain ⟨hc0, hc1, hc2, hc3, h⟩ := h
    refine vw_arq S hK hV hS hA 4 rfl q233 hK.2.2.2.2.1 hc0 rfl hc3 hc1 hc2 dJ2_init_10 (fun q_6 V_7 H g1 g2 hV hS => ?_)
    replace h := h q_6 V_7 g1 g2
    have hk : 0 + 1 ≤ MC ∧ 0 + a1.toNatClampNeg ≤ MS := ⟨hc1, hc2⟩
    obtain ⟨V_8, e_9, h⟩ := bO_e h
    refine vp_v (v := .ref q_6) S hK hV hS fJ2_9 (Or.inl rfl) (va_rf_narA (r := some q_6)).1 (va_rf_narA (r := some q_6)).2 e_9 dJ2_init_13 (fun H locs hV hS => ?_)
    refine lv_goto (tgt := 60) hx hb dJ2_init_16 (by decide) ?_
    exact ve_v S hlocks hret hV hS h hk.1 hk.2 dJ2_init_60
def vJ2_size (cA : Nat → ClassId) (a0 : Nat) (V : VS) (Post : Int32 → VS → Prop) : Prop := bO (gI V [14] a0 2) (fun g_1 => Post g_1 V)
abbrev rJ2_size : Room := { frames := 0, cells := 0, slots := 0, locals := 0 }
theorem cdJ2_size : yJ2_size.cls = RJ2 ∧ yJ2_size.cls ≠ "java/lang/invoke/MethodHandle" ∧ yJ2_size.cls ≠ "java/lang/invoke/VarHandle" ∧ (parseMethodDescriptor yJ2_size.desc).map (fun d => d.parameters.length) = some 0 := by decide +kernel
set_option maxHeartbeats 4000000 in
set_option maxRecDepth 100000 in
theorem mvJ2_size (l : Launch) {D : va_G} {cA : Nat → ClassId} {A : Nat → Prop} (a0 : Nat) (V : VS) (Post : Int32 → VS → Prop) (h : vJ2_size cA a0 V Post) : Met l yJ2_size (ws_ yJ2_size cJ2_size 1 (some (.int))) rJ2_size (vPc [.ref a0] D cA A V) (va_Qi Post (vB D A) A) 0 0 A := by
  refine vstM (own := RJ2) (by decide) rfl (Nat.le_of_ble_eq_true rfl) ?_
  intro p e s m args below meth c ls X hret hV hS hl
  obtain ⟨S, hK, hG, hA, hnm, hlocks⟩ := X
  have hx := S.1
  have hb := S.2.1
  have hl : lv_has ls 1 [(0, .ref a0)] := hl
  unfold vJ2_size at h
  refine lv_aload_n hx hb dJ2_size_0 rfl (lv_at hl 0 rfl) ?_
  obtain ⟨g_1, e_2, h⟩ := bO_e h
  refine vg_i S hK hV fJ2_48 e_2 dJ2_size_1 ?_
  exact ve_i S hlocks hret hV hS h rfl (Nat.le_refl _) (Nat.le_refl _) dJ2_size_4
def vJ2_elementData (cA : Nat → ClassId) (a0 : Nat) (a1 : Int32) (V : VS) (Post : Option Nat → VS → Prop) : Prop := bO (gR V [14] a0 1) (fun p_1 => bO p_1 (fun n_3 => bO (lR V (cA 4) n_3 a1) (fun p_4 => Post (p_4) V)))
abbrev rJ2_elementData : Room := { frames := 0, cells := 0, slots := 0, locals := 0 }
theorem cdJ2_elementData : yJ2_elementData.cls = RJ2 ∧ yJ2_elementData.cls ≠ "java/lang/invoke/MethodHandle" ∧ yJ2_elementData.cls ≠ "java/lang/invoke/VarHandle" ∧ (parseMethodDescriptor yJ2_elementData.desc).map (fun d => d.parameters.length) = some 1 := by decide +kernel
set_option maxHeartbeats 4000000 in
set_option maxRecDepth 100000 in
theorem mvJ2_elementData (l : Launch) {D : va_G} {cA : Nat → ClassId} {A : Nat → Prop} (a0 : Nat) (a1 : Int32) (V : VS) (Post : Option Nat → VS → Prop) (h : vJ2_elementData cA a0 a1 V Post) : Met l yJ2_elementData (ws_ yJ2_elementData cJ2_elementData 2 (some (.object "java/lang/Object"))) rJ2_elementData (vPc [.ref a0, .int a1] D cA A V) (va_Qq Post (vB D A) A) 0 0 A := by
  refine vstM (own := RJ2) (by decide) rfl (Nat.le_of_ble_eq_true rfl) ?_
  intro p e s m args below meth c ls X hret hV hS hl
  obtain ⟨S, hK, hG, hA, hnm, hlocks⟩ := X
  have hx := S.1
  have hb := S.2.1
  have hl : lv_has ls 2 [(0, .ref a0), (1, .int a1)] := hl
  unfold vJ2_elementData at h
  refine lv_aload_n hx hb dJ2_elementData_0 rfl (lv_at hl 0 rfl) ?_
  obtain ⟨p_1, e_2, h⟩ := bO_e h
  refine vg_r S hK hV fJ2_9 e_2 dJ2_elementData_1 ?_
  refine lv_iload_n hx hb dJ2_elementData_4 rfl (lv_at hl 1 rfl) ?_
  obtain ⟨n_3, z_n_3, h9⟩ := bO_e h
  clear h; subst z_n_3; have h := h9; clear h9
  obtain ⟨p_4, e_5, h⟩ := bO_e h
  refine vl_r S hK hV 4 rfl e_5 dJ2_elementData_5 ?_
  exact ve_q (r := p_4) S hlocks hret (Or.inl ⟨_, rfl⟩) hV hS h (Nat.le_refl _) (Nat.le_refl _) dJ2_elementData_6
def vJ2_get (cA : Nat → ClassId) (a0 : Nat) (a1 : Int32) (V : VS) (Post : Option Nat → VS → Prop) : Prop := bO (gI V [14] a0 2) (fun g_1 => wJ11_checkIndex a1 g_1 (fun r_3 => bO (vO V [14] a0) (fun o_6 => vJ2_elementData cA a0 a1 V (fun p_4 V_5 => Post (p_4) V_5))))
abbrev rJ2_get : Room := { frames := 2, cells := 0, slots := 0, locals := 43 }
theorem cdJ2_get : yJ2_get.cls = RJ2 ∧ yJ2_get.cls ≠ "java/lang/invoke/MethodHandle" ∧ yJ2_get.cls ≠ "java/lang/invoke/VarHandle" ∧ (parseMethodDescriptor yJ2_get.desc).map (fun d => d.parameters.length) = some 1 := by decide +kernel
set_option maxHeartbeats 4000000 in
set_option maxRecDepth 100000 in
theorem mvJ2_get (l : Launch) {D : va_G} {cA : Nat → ClassId} {A : Nat → Prop} (a0 : Nat) (a1 : Int32) (V : VS) (Post : Option Nat → VS → Prop) (h : vJ2_get cA a0 a1 V Post) : Met l yJ2_get (ws_ yJ2_get cJ2_get 2 (some (.object "java/lang/Object"))) rJ2_get (vPc [.ref a0, .int a1] D cA A V) (va_Qq Post (vB D A) A) 0 0 A := by
  refine vstM (own := RJ2) (by decide) rfl (Nat.le_of_ble_eq_true rfl) ?_
  intro p e s m args below meth c ls X hret hV hS hl
  obtain ⟨S, hK, hG, hA, hnm, hlocks⟩ := X
  have hx := S.1
  have hb := S.2.1
  have hl : lv_has ls 2 [(0, .ref a0), (1, .int a1)] := hl
  unfold vJ2_get at h
  refine lv_iload_n hx hb dJ2_get_0 rfl (lv_at hl 1 rfl) ?_
  refine lv_aload_n hx hb dJ2_get_1 rfl (lv_at hl 0 rfl) ?_
  obtain ⟨g_1, e_2, h⟩ := bO_e h
  refine vg_i S hK hV fJ2_48 e_2 dJ2_get_2 ?_
  refine ks_i (k := 2) (As := [.int a1, .int g_1]) (rest := []) S hG.2.2.2.1 (trivial : kX 2 A s s.heap 0 0 (fun _ => 0)) hS (mtJ11_checkIndex l (A := A) a1 g_1 _ h) (va_cwS 2 S.2.2.2.2 (lw_S q611 q612 q155 q613) rfl rfl rfl cdJ11_checkIndex ⟨Nat.le_of_ble_eq_true rfl, Nat.le_of_ble_eq_true rfl⟩) rfl rfl hl.1 (Nat.le_of_ble_eq_true rfl) dJ2_get_5 ⟨Nat.le_refl _, Nat.le_refl _⟩ (fun r_3 h => ?_)
  refine lv_pop hx hb dJ2_get_8 rfl ?_
  refine lv_aload_n hx hb dJ2_get_9 rfl (lv_at hl 0 rfl) ?_
  refine lv_iload_n hx hb dJ2_get_10 rfl (lv_at hl 1 rfl) ?_
  obtain ⟨o_6, e_7, h⟩ := bO_e h
  refine vk_q (vr_V (As := [.int a1]) (rest := []) S hK hG hA hV hS e_7 rfl (mvJ2_elementData l a0 a1 V _ h) (cwV 1 S.2.2.2.2 (lw_V q615 q616 q617 q144 q618) rfl rfl rfl cdJ2_elementData ⟨Nat.le_of_ble_eq_true rfl, Nat.le_of_ble_eq_true rfl⟩) rfl hl.1 (Nat.le_of_ble_eq_true rfl) dJ2_get_11 ⟨Nat.le_refl _, Nat.le_refl _⟩) hS (fun p_4 V_5 H locs h hV hS => ?_)
  exact ve_q (r := p_4) S hlocks hret (Or.inl ⟨_, rfl⟩) hV hS h (Nat.le_refl _) (Nat.le_refl _) dJ2_get_14
def vJ2_add_2_c11 (cA : Nat → ClassId) (a0 : Nat) (a1 : Nat) (a3 : Int32) (Post : VS → Prop) (x2 : Nat) (V : VS) : Prop := bO (vO V [5, 6, 7, 8, 9] a1) (fun o_5 => bO (tR V (cA 4) x2 a3 (some a1)) (fun V_4 => bO (pF V_4 [14] a0 2 (.int (a3 + (1 : Int32)))) (fun V_8 => Post V_8)))
def vJ2_add_2 (cA : Nat → ClassId) (a0 : Nat) (a1 : Nat) (a2 : Nat) (a3 : Int32) (V : VS) (Post : VS → Prop) : Prop := bO (nA V (cA 4) a2) (fun z_1 => (a3 = (nI z_1) → (False)) ∧ (¬ (a3 = (nI z_1)) → (vJ2_add_2_c11 cA a0 a1 a3 Post a2 V)))
abbrev rJ2_add_2 : Room := { frames := 0, cells := 0, slots := 0, locals := 0 }
theorem cdJ2_add_2 : yJ2_add_2.cls = RJ2 ∧ yJ2_add_2.cls ≠ "java/lang/invoke/MethodHandle" ∧ yJ2_add_2.cls ≠ "java/lang/invoke/VarHandle" ∧ (parseMethodDescriptor yJ2_add_2.desc).map (fun d => d.parameters.length) = some 3 := by decide +kernel
set_option maxHeartbeats 4000000 in
set_option maxRecDepth 100000 in
theorem mvJ2_add_2 (l : Launch) {D : va_G} {cA : Nat → ClassId} {A : Nat → Prop} (a0 : Nat) (a1 : Nat) (a2 : Nat) (a3 : Int32) (V : VS) (Post : VS → Prop) (h : vJ2_add_2 cA a0 a1 a2 a3 V Post) : Met l yJ2_add_2 (ws_ yJ2_add_2 cJ2_add_2 4 none) rJ2_add_2 (vPc [.ref a0, .ref a1, .ref a2, .int a3] D cA A V) (va_Qv Post (vB D A) A) 0 0 A := by
  refine vstM (own := RJ2) (by decide) rfl (Nat.le_of_ble_eq_true rfl) ?_
  intro p e s m args below meth c ls X hret hV hS hl
  obtain ⟨S, hK, hG, hA, hnm, hlocks⟩ := X
  have hx := S.1
  have hb := S.2.1
  have hl : lv_has ls 4 [(0, .ref a0), (1, .ref a1), (2, .ref a2), (3, .int a3)] := hl
  have C11 : ∀ (x2 : Nat) (V : VS) (H : Heap) (locs : List Loc) (ls : Array Slot), HV D A V H → va_S A s.heap H locs → lv_has ls 4 [(0, .ref a0), (1, .ref a1), (2, .ref x2), (3, .int a3)] → vJ2_add_2_c11 cA a0 a1 a3 Post x2 V → W p l e rJ2_add_2 s m args below meth c H locs 0 0 (MQ below (va_Qv Post (vB D A) A) args s 0 0 A) (F0 m 11 ls []) := by
    intro x2 V H locs ls hV hS hl h
    unfold vJ2_add_2_c11 at h
    refine lv_aload_n hx hb dJ2_add_2_11 rfl (lv_at hl 2 rfl) ?_
    refine lv_iload_n hx hb dJ2_add_2_12 rfl (lv_at hl 3 rfl) ?_
    refine lv_aload_n hx hb dJ2_add_2_13 rfl (lv_at hl 1 rfl) ?_
    obtain ⟨o_5, e_6, h⟩ := bO_e h
    obtain ⟨V_4, e_7, h⟩ := bO_e h
    refine vs_r S hK hV hS 4 rfl e_6 st_java_lang_Object e_7 dJ2_add_2_14 (fun H locs hV hS => ?_)
    refine lv_aload_n hx hb dJ2_add_2_15 rfl (lv_at hl 0 rfl) ?_
    refine lv_iload_n hx hb dJ2_add_2_16 rfl (lv_at hl 3 rfl) ?_
    refine lv_iconst hx hb dJ2_add_2_17 kc_1 ?_
    refine lv_iadd hx hb dJ2_add_2_18 ?_
    obtain ⟨V_8, e_9, h⟩ := bO_e h
    refine vp_v (v := .int (a3 + (1 : Int32))) S hK hV hS fJ2_48 (Or.inl rfl) rfl rfl e_9 dJ2_add_2_19 (fun H locs hV hS => ?_)
    exact ve_v S hlocks hret hV hS h (Nat.le_refl _) (Nat.le_refl _) dJ2_add_2_22
  unfold vJ2_add_2 at h
  refine lv_iload_n hx hb dJ2_add_2_0 rfl (lv_at hl 3 rfl) ?_
  refine lv_aload_n hx hb dJ2_add_2_1 rfl (lv_at hl 2 rfl) ?_
  obtain ⟨z_1, e_2, h⟩ := bO_e h
  refine vn_a S hK hV 4 rfl e_2 dJ2_add_2_2 ?_
  refine lv_icmp_ne (tgt := 11) hx hb dJ2_add_2_3 (by decide) (fun c_3 => ?_) (fun c_3 => ?_)
  · replace h := h.2 c_3
    exact C11 _ _ _ _ _ hV hS (lv_sub hl [0, 1, 2, 3] rfl) h
  · replace h := h.1 c_3
    refine lv_aload_n hx hb dJ2_add_2_6 rfl (lv_at hl 0 rfl) ?_
    exact h.elim
def vJ2_add (cA : Nat → ClassId) (a0 : Nat) (a1 : Nat) (V : VS) (Post : Int32 → VS → Prop) : Prop := bO (gI V [14] a0 0) (fun g_1 => bO (pF V [14] a0 0 (.int (g_1 + (1 : Int32)))) (fun V_3 => bO (gR V_3 [14] a0 1) (fun p_5 => bO (gI V_3 [14] a0 2) (fun g_7 => bO p_5 (fun n_9 => bO (vO V_3 [14] a0) (fun o_12 => vJ2_add_2 cA a0 a1 n_9 g_7 V_3 (fun V_11 => Post (1 : Int32) V_11)))))))
abbrev rJ2_add : Room := { frames := 1, cells := 0, slots := 0, locals := 23 }
theorem cdJ2_add : yJ2_add.cls = RJ2 ∧ yJ2_add.cls ≠ "java/lang/invoke/MethodHandle" ∧ yJ2_add.cls ≠ "java/lang/invoke/VarHandle" ∧ (parseMethodDescriptor yJ2_add.desc).map (fun d => d.parameters.length) = some 1 := by decide +kernel
set_option maxHeartbeats 4000000 in
set_option maxRecDepth 100000 in
theorem mvJ2_add (l : Launch) {D : va_G} {cA : Nat → ClassId} {A : Nat → Prop} (a0 : Nat) (a1 : Nat) (V : VS) (Post : Int32 → VS → Prop) (h : vJ2_add cA a0 a1 V Post) : Met l yJ2_add (ws_ yJ2_add cJ2_add 2 (some (.boolean))) rJ2_add (vPc [.ref a0, .ref a1] D cA A V) (va_Qi Post (vB D A) A) 0 0 A := by
  refine vstM (own := RJ2) (by decide) rfl (Nat.le_of_ble_eq_true rfl) ?_
  intro p e s m args below meth c ls X hret hV hS hl
  obtain ⟨S, hK, hG, hA, hnm, hlocks⟩ := X
  have hx := S.1
  have hb := S.2.1
  have hl : lv_has ls 2 [(0, .ref a0), (1, .ref a1)] := hl
  unfold vJ2_add at h
  refine lv_aload_n hx hb dJ2_add_0 rfl (lv_at hl 0 rfl) ?_
  refine lv_dup hx hb dJ2_add_1 rfl ?_
  obtain ⟨g_1, e_2, h⟩ := bO_e h
  refine vg_i S hK hV fJ2_63 e_2 dJ2_add_2 ?_
  refine lv_iconst hx hb dJ2_add_5 kc_1 ?_
  refine lv_iadd hx hb dJ2_add_6 ?_
  obtain ⟨V_3, e_4, h⟩ := bO_e h
  refine vp_v (v := .int (g_1 + (1 : Int32))) S hK hV hS fJ2_63 (Or.inl rfl) rfl rfl e_4 dJ2_add_7 (fun H locs hV hS => ?_)
  refine lv_aload_n hx hb dJ2_add_10 rfl (lv_at hl 0 rfl) ?_
  refine lv_aload_n hx hb dJ2_add_11 rfl (lv_at hl 1 rfl) ?_
  refine lv_aload_n hx hb dJ2_add_12 rfl (lv_at hl 0 rfl) ?_
  obtain ⟨p_5, e_6, h⟩ := bO_e h
  refine vg_r S hK hV fJ2_9 e_6 dJ2_add_13 ?_
  refine lv_aload_n hx hb dJ2_add_16 rfl (lv_at hl 0 rfl) ?_
  obtain ⟨g_7, e_8, h⟩ := bO_e h
  refine vg_i S hK hV fJ2_48 e_8 dJ2_add_17 ?_
  obtain ⟨n_9, z_n_9, h9⟩ := bO_e h
  clear h; subst z_n_9; have h := h9; clear h9
  obtain ⟨o_12, e_13, h⟩ := bO_e h
  refine vk_v (vr_V (As := [.ref a1, .ref n_9, .int g_7]) (rest := []) S hK hG hA hV hS e_13 rfl (mvJ2_add_2 l a0 a1 n_9 g_7 V_3 _ h) (cwV 3 S.2.2.2.2 (lw_V q668 q670 qs14 q144 q671) rfl rfl rfl cdJ2_add_2 ⟨Nat.le_of_ble_eq_true rfl, Nat.le_of_ble_eq_true rfl⟩) rfl hl.1 (Nat.le_of_ble_eq_true rfl) dJ2_add_20 ⟨Nat.le_refl _, Nat.le_refl _⟩) hS (fun V_11 H locs h hV hS => ?_)
  refine lv_iconst hx hb dJ2_add_23 kc_1 ?_
  exact ve_i S hlocks hret hV hS h (vz_nar vz_1) (Nat.le_refl _) (Nat.le_refl _) dJ2_add_24
def vJ2_fastRemove_c34 (cA : Nat → ClassId) (a0 : Nat) (a1 : Nat) (a2 : Int32) (Post : VS → Prop) (x3 : Int32) (V : VS) : Prop := bO (pF V [14] a0 2 (.int x3)) (fun V_9 => bO (tR V_9 (cA 4) a1 x3 none) (fun V_11 => Post V_11))
def vJ2_fastRemove (cA : Nat → ClassId) (a0 : Nat) (a1 : Nat) (a2 : Int32) (V : VS) (Post : VS → Prop) : Prop := bO (gI V [14] a0 0) (fun g_1 => bO (pF V [14] a0 0 (.int (g_1 + (1 : Int32)))) (fun V_3 => bO (gI V_3 [14] a0 2) (fun g_5 => ∀ v_7 : Int32, v_7 = g_5 - (1 : Int32) → (v_7 ≤ a2 → (vJ2_fastRemove_c34 cA a0 a1 a2 Post v_7 V_3)) ∧ (¬ (v_7 ≤ a2) → (False)))))
abbrev rJ2_fastRemove : Room := { frames := 0, cells := 0, slots := 0, locals := 0 }
theorem cdJ2_fastRemove : yJ2_fastRemove.cls = RJ2 ∧ yJ2_fastRemove.cls ≠ "java/lang/invoke/MethodHandle" ∧ yJ2_fastRemove.cls ≠ "java/lang/invoke/VarHandle" ∧ (parseMethodDescriptor yJ2_fastRemove.desc).map (fun d => d.parameters.length) = some 2 := by decide +kernel
set_option maxHeartbeats 4000000 in
set_option maxRecDepth 100000 in
theorem mvJ2_fastRemove (l : Launch) {D : va_G} {cA : Nat → ClassId} {A : Nat → Prop} (a0 : Nat) (a1 : Nat) (a2 : Int32) (V : VS) (Post : VS → Prop) (h : vJ2_fastRemove cA a0 a1 a2 V Post) : Met l yJ2_fastRemove (ws_ yJ2_fastRemove cJ2_fastRemove 4 none) rJ2_fastRemove (vPc [.ref a0, .ref a1, .int a2] D cA A V) (va_Qv Post (vB D A) A) 0 0 A := by
  refine vstM (own := RJ2) (by decide) rfl (Nat.le_of_ble_eq_true rfl) ?_
  intro p e s m args below meth c ls X hret hV hS hl
  obtain ⟨S, hK, hG, hA, hnm, hlocks⟩ := X
  have hx := S.1
  have hb := S.2.1
  have hl : lv_has ls 4 [(0, .ref a0), (1, .ref a1), (2, .int a2)] := hl
  have C34 : ∀ (x3 : Int32) (V : VS) (H : Heap) (locs : List Loc) (ls : Array Slot), HV D A V H → va_S A s.heap H locs → lv_has ls 4 [(0, .ref a0), (1, .ref a1), (2, .int a2), (3, .int x3)] → vJ2_fastRemove_c34 cA a0 a1 a2 Post x3 V → W p l e rJ2_fastRemove s m args below meth c H locs 0 0 (MQ below (va_Qv Post (vB D A) A) args s 0 0 A) (F0 m 34 ls []) := by
    intro x3 V H locs ls hV hS hl h
    unfold vJ2_fastRemove_c34 at h
    refine lv_aload_n hx hb dJ2_fastRemove_34 rfl (lv_at hl 1 rfl) ?_
    refine lv_aload_n hx hb dJ2_fastRemove_35 rfl (lv_at hl 0 rfl) ?_
    refine lv_iload_n hx hb dJ2_fastRemove_36 rfl (lv_at hl 3 rfl) ?_
    refine lv_dup_x1 hx hb dJ2_fastRemove_37 rfl rfl ?_
    obtain ⟨V_9, e_10, h⟩ := bO_e h
    refine vp_v (v := .int x3) S hK hV hS fJ2_48 (Or.inl rfl) rfl rfl e_10 dJ2_fastRemove_38 (fun H locs hV hS => ?_)
    refine lv_null hx hb dJ2_fastRemove_41 ?_
    obtain ⟨V_11, e_12, h⟩ := bO_e h
    refine vs_n S hK hV hS 4 rfl e_12 dJ2_fastRemove_42 (fun H locs hV hS => ?_)
    exact ve_v S hlocks hret hV hS h (Nat.le_refl _) (Nat.le_refl _) dJ2_fastRemove_43
  unfold vJ2_fastRemove at h
  refine lv_aload_n hx hb dJ2_fastRemove_0 rfl (lv_at hl 0 rfl) ?_
  refine lv_dup hx hb dJ2_fastRemove_1 rfl ?_
  obtain ⟨g_1, e_2, h⟩ := bO_e h
  refine vg_i S hK hV fJ2_63 e_2 dJ2_fastRemove_2 ?_
  refine lv_iconst hx hb dJ2_fastRemove_5 kc_1 ?_
  refine lv_iadd hx hb dJ2_fastRemove_6 ?_
  obtain ⟨V_3, e_4, h⟩ := bO_e h
  refine vp_v (v := .int (g_1 + (1 : Int32))) S hK hV hS fJ2_63 (Or.inl rfl) rfl rfl e_4 dJ2_fastRemove_7 (fun H locs hV hS => ?_)
  refine lv_aload_n hx hb dJ2_fastRemove_10 rfl (lv_at hl 0 rfl) ?_
  obtain ⟨g_5, e_6, h⟩ := bO_e h
  refine vg_i S hK hV fJ2_48 e_6 dJ2_fastRemove_11 ?_
  refine lv_iconst hx hb dJ2_fastRemove_14 kc_1 ?_
  refine lv_isub hx hb dJ2_fastRemove_15 ?_
  refine lv_topi (fun v_7 e_v_7 => ?_)
  replace h := h v_7 e_v_7
  refine lv_dup hx hb dJ2_fastRemove_16 rfl ?_
  refine lv_istore_n (lv' := [(3, .int v_7), (0, .ref a0), (1, .ref a1), (2, .int a2)]) hx hb dJ2_fastRemove_17 rfl hl (by decide) rfl (fun ls hl => ?_)
  refine lv_iload_n hx hb dJ2_fastRemove_18 rfl (lv_at hl 3 rfl) ?_
  refine lv_icmp_le (tgt := 34) hx hb dJ2_fastRemove_19 (by decide) (fun c_8 => ?_) (fun c_8 => ?_)
  · replace h := h.1 c_8
    exact C34 _ _ _ _ _ hV hS (lv_sub hl [1, 2, 3, 0] rfl) h
  · replace h := h.2 c_8
    refine lv_aload_n hx hb dJ2_fastRemove_22 rfl (lv_at hl 2 rfl) ?_
    refine lv_iload_n hx hb dJ2_fastRemove_23 rfl (lv_at hl 3 rfl) ?_
    refine lv_iconst hx hb dJ2_fastRemove_24 kc_1 ?_
    refine lv_iadd hx hb dJ2_fastRemove_25 ?_
    refine lv_aload_n hx hb dJ2_fastRemove_26 rfl (lv_at hl 2 rfl) ?_
    refine lv_iload_n hx hb dJ2_fastRemove_27 rfl (lv_at hl 3 rfl) ?_
    refine lv_iload_n hx hb dJ2_fastRemove_28 rfl (lv_at hl 0 rfl) ?_
    refine lv_iload_n hx hb dJ2_fastRemove_29 rfl (lv_at hl 3 rfl) ?_
    refine lv_isub hx hb dJ2_fastRemove_30 ?_
    exact h.elim
def vJ2_remove (cA : Nat → ClassId) (a0 : Nat) (a1 : Int32) (V : VS) (Post : Option Nat → VS → Prop) : Prop := bO (gI V [14] a0 2) (fun g_1 => wJ11_checkIndex a1 g_1 (fun r_3 => bO (gR V [14] a0 1) (fun p_4 => bO p_4 (fun n_6 => bO (lR V (cA 4) n_6 a1) (fun p_7 => bO (vO V [14] a0) (fun o_11 => vJ2_fastRemove cA a0 n_6 a1 V (fun V_10 => Post (p_7) V_10)))))))
abbrev rJ2_remove : Room := { frames := 2, cells := 0, slots := 0, locals := 43 }
theorem cdJ2_remove : yJ2_remove.cls = RJ2 ∧ yJ2_remove.cls ≠ "java/lang/invoke/MethodHandle" ∧ yJ2_remove.cls ≠ "java/lang/invoke/VarHandle" ∧ (parseMethodDescriptor yJ2_remove.desc).map (fun d => d.parameters.length) = some 1 := by decide +kernel
set_option maxHeartbeats 4000000 in
set_option maxRecDepth 100000 in
theorem mvJ2_remove (l : Launch) {D : va_G} {cA : Nat → ClassId} {A : Nat → Prop} (a0 : Nat) (a1 : Int32) (V : VS) (Post : Option Nat → VS → Prop) (h : vJ2_remove cA a0 a1 V Post) : Met l yJ2_remove (ws_ yJ2_remove cJ2_remove 4 (some (.object "java/lang/Object"))) rJ2_remove (vPc [.ref a0, .int a1] D cA A V) (va_Qq Post (vB D A) A) 0 0 A := by
  refine vstM (own := RJ2) (by decide) rfl (Nat.le_of_ble_eq_true rfl) ?_
  intro p e s m args below meth c ls X hret hV hS hl
  obtain ⟨S, hK, hG, hA, hnm, hlocks⟩ := X
  have hx := S.1
  have hb := S.2.1
  have hl : lv_has ls 4 [(0, .ref a0), (1, .int a1)] := hl
  unfold vJ2_remove at h
  refine lv_iload_n hx hb dJ2_remove_0 rfl (lv_at hl 1 rfl) ?_
  refine lv_aload_n hx hb dJ2_remove_1 rfl (lv_at hl 0 rfl) ?_
  obtain ⟨g_1, e_2, h⟩ := bO_e h
  refine vg_i S hK hV fJ2_48 e_2 dJ2_remove_2 ?_
  refine ks_i (k := 2) (As := [.int a1, .int g_1]) (rest := []) S hG.2.2.2.1 (trivial : kX 2 A s s.heap 0 0 (fun _ => 0)) hS (mtJ11_checkIndex l (A := A) a1 g_1 _ h) (va_cwS 2 S.2.2.2.2 (lw_S q611 q612 q155 q613) rfl rfl rfl cdJ11_checkIndex ⟨Nat.le_of_ble_eq_true rfl, Nat.le_of_ble_eq_true rfl⟩) rfl rfl hl.1 (Nat.le_of_ble_eq_true rfl) dJ2_remove_5 ⟨Nat.le_refl _, Nat.le_refl _⟩ (fun r_3 h => ?_)
  refine lv_pop hx hb dJ2_remove_8 rfl ?_
  refine lv_aload_n hx hb dJ2_remove_9 rfl (lv_at hl 0 rfl) ?_
  obtain ⟨p_4, e_5, h⟩ := bO_e h
  refine vg_r S hK hV fJ2_9 e_5 dJ2_remove_10 ?_
  refine lv_astore_nQ (r := p_4) (lv' := [(2, va_rf p_4), (0, .ref a0), (1, .int a1)]) hx hb dJ2_remove_13 rfl hl (by decide) rfl (fun ls hl => ?_)
  refine lv_aload_nQ hx hb dJ2_remove_14 rfl (lv_at hl 0 rfl) ?_
  refine lv_iload_n hx hb dJ2_remove_15 rfl (lv_at hl 2 rfl) ?_
  obtain ⟨n_6, z_n_6, h9⟩ := bO_e h
  clear h; subst z_n_6; have h := h9; clear h9
  obtain ⟨p_7, e_8, h⟩ := bO_e h
  refine vl_r S hK hV 4 rfl e_8 dJ2_remove_16 ?_
  refine lv_astore_nQ (r := p_7) (lv' := [(3, va_rf p_7), (2, .ref n_6), (0, .ref a0), (1, .int a1)]) hx hb dJ2_remove_17 rfl hl (by decide) rfl (fun ls hl => ?_)
  refine lv_aload_n hx hb dJ2_remove_18 rfl (lv_at hl 2 rfl) ?_
  refine lv_aload_n hx hb dJ2_remove_19 rfl (lv_at hl 1 rfl) ?_
  refine lv_iload_n hx hb dJ2_remove_20 rfl (lv_at hl 3 rfl) ?_
  obtain ⟨o_11, e_12, h⟩ := bO_e h
  refine vk_v (vr_V (As := [.ref n_6, .int a1]) (rest := []) S hK hG hA hV hS e_12 rfl (mvJ2_fastRemove l a0 n_6 a1 V _ h) (cwV 2 S.2.2.2.2 (lw_V q1015 q1017 qs34 q144 q1018) rfl rfl rfl cdJ2_fastRemove ⟨Nat.le_of_ble_eq_true rfl, Nat.le_of_ble_eq_true rfl⟩) rfl hl.1 (Nat.le_of_ble_eq_true rfl) dJ2_remove_21 ⟨Nat.le_refl _, Nat.le_refl _⟩) hS (fun V_10 H locs h hV hS => ?_)
  refine lv_aload_nQ hx hb dJ2_remove_24 rfl (lv_at hl 0 rfl) ?_
  exact ve_q (r := p_7) S hlocks hret (Or.inl ⟨_, rfl⟩) hV hS h (Nat.le_refl _) (Nat.le_refl _) dJ2_remove_25
def vJ9_init_2_c41 (cA : Nat → ClassId) (a0 : Nat) (a1 : Option Nat) (a2 : Option Nat) (a3 : Int32) (a4 : Int32) (Post : VS → Prop) (V : VS) : Prop := bO (pF V [4] a0 3 (va_rf a1)) (fun V_12 => bO (pF V_12 [4] a0 0 (va_rf a2)) (fun V_14 => (a3 = 0 → (bO (pF V_14 [4] a0 2 (va_rf none)) (fun V_17 => Post V_17))) ∧ (¬ (a3 = 0) → (Post V_14))))
def vJ9_init_2 (cA : Nat → ClassId) (a0 : Nat) (a1 : Option Nat) (a2 : Option Nat) (a3 : Int32) (a4 : Int32) (V : VS) (Post : VS → Prop) : Prop := bO (pF V [4] a0 0 (.ref a0)) (fun V_1 => ∀ p_3 : Option Nat, bO (pF V_1 [4] a0 1 (va_rf p_3)) (fun V_4 => ∀ p_6 : Option Nat, bO (pF V_4 [4] a0 2 (va_rf p_6)) (fun V_7 => (a4 = 0 → (bO (pF V_7 [4] a0 1 (va_rf none)) (fun V_10 => vJ9_init_2_c41 cA a0 a1 a2 a3 a4 Post V_10))) ∧ (¬ (a4 = 0) → (False)))))
abbrev rJ9_init_2 : Room := { frames := 1, cells := 0, slots := 0, locals := 24 }
theorem cdJ9_init_2 : yJ9_init_2.cls ≠ "java/lang/invoke/MethodHandle" ∧ yJ9_init_2.cls ≠ "java/lang/invoke/VarHandle" ∧ (parseMethodDescriptor yJ9_init_2.desc).map (fun d => d.parameters.length) = some 4 := by decide +kernel
set_option maxHeartbeats 4000000 in
set_option maxRecDepth 100000 in
theorem mvJ9_init_2 (l : Launch) {D : va_G} {cA : Nat → ClassId} {A : Nat → Prop} (a0 : Nat) (a1 : Option Nat) (a2 : Option Nat) (a3 : Int32) (a4 : Int32) (V : VS) (Post : VS → Prop) (h : vJ9_init_2 cA a0 a1 a2 a3 a4 V Post) : Met l yJ9_init_2 (ws_ yJ9_init_2 cJ9_init_2 5 none) rJ9_init_2 (vPc [.ref a0, va_rf a1, va_rf a2, .int a3, .int a4] D cA A V) (va_Qv Post (vB D A) A) 0 0 A := by
  refine vstM (own := RJ9) (by decide) rfl (by cases a1 <;> cases a2 <;> exact Nat.le_of_ble_eq_true rfl) ?_
  intro p e s m args below meth c ls X hret hV hS hl
  obtain ⟨S, hK, hG, hA, hnm, hlocks⟩ := X
  have hx := S.1
  have hb := S.2.1
  have hl : lv_has ls 5 [(0, .ref a0), (1, va_rf a1), (2, va_rf a2), (3, .int a3), (4, .int a4)] := by cases a1 <;> cases a2 <;> exact hl
  have C41 : ∀ (V : VS) (H : Heap) (locs : List Loc) (ls : Array Slot), HV D A V H → va_S A s.heap H locs → lv_has ls 5 [(0, .ref a0), (1, va_rf a1), (2, va_rf a2), (3, .int a3), (4, .int a4)] → vJ9_init_2_c41 cA a0 a1 a2 a3 a4 Post V → W p l e rJ9_init_2 s m args below meth c H locs 0 0 (MQ below (va_Qv Post (vB D A) A) args s 0 0 A) (F0 m 41 ls []) := by
    intro V H locs ls hV hS hl h
    unfold vJ9_init_2_c41 at h
    refine lv_aload_n hx hb dJ9_init_2_41 rfl (lv_at hl 0 rfl) ?_
    refine lv_aload_nQ hx hb dJ9_init_2_42 rfl (lv_at hl 1 rfl) ?_
    obtain ⟨V_12, e_13, h⟩ := bO_e h
    refine vp_v (v := va_rf a1) S hK hV hS fJ9_31 (Or.inl rfl) (va_rf_nar (r := a1)).1 (va_rf_nar (r := a1)).2 e_13 dJ9_init_2_43 (fun H locs hV hS => ?_)
    refine lv_aload_n hx hb dJ9_init_2_46 rfl (lv_at hl 0 rfl) ?_
    refine lv_aload_nQ hx hb dJ9_init_2_47 rfl (lv_at hl 2 rfl) ?_
    obtain ⟨V_14, e_15, h⟩ := bO_e h
    refine vp_v (v := va_rf a2) S hK hV hS fJ9_7 (Or.inl rfl) (va_rf_nar (r := a2)).1 (va_rf_nar (r := a2)).2 e_15 dJ9_init_2_48 (fun H locs hV hS => ?_)
    refine lv_iload_n hx hb dJ9_init_2_51 rfl (lv_at hl 3 rfl) ?_
    refine lv_if_ne (tgt := 60) hx hb dJ9_init_2_52 (by decide) (fun c_16 => ?_) (fun c_16 => ?_)
    · replace h := h.2 c_16
      exact ve_v S hlocks hret hV hS h (Nat.le_refl _) (Nat.le_refl _) dJ9_init_2_60
    · replace h := h.1 c_16
      refine lv_aload_n hx hb dJ9_init_2_55 rfl (lv_at hl 0 rfl) ?_
      refine lv_null hx hb dJ9_init_2_56 ?_
      obtain ⟨V_17, e_18, h⟩ := bO_e h
      refine vp_v (v := va_rf none) S hK hV hS fJ9_24 (Or.inl rfl) (va_rf_nar (r := none)).1 (va_rf_nar (r := none)).2 e_18 dJ9_init_2_57 (fun H locs hV hS => ?_)
      exact ve_v S hlocks hret hV hS h (Nat.le_refl _) (Nat.le_refl _) dJ9_init_2_60
  unfold vJ9_init_2 at h
  refine lv_aload_n hx hb dJ9_init_2_0 rfl (lv_at hl 0 rfl) ?_
  refine W.objInit hx hb S.2.2.2.1 (S.2.2.2.2 _ q542) (S.2.2.2.2 _ q181) (S.2.2.2.2 _ q182) rfl (hl.1.trans S.2.2.1.symm) rfl dJ9_init_2_1 (Nat.le_of_ble_eq_true rfl) (Nat.le_of_ble_eq_true rfl) ?_
  refine W.eq (g2 := F0 m 4 ls []) rfl ?_
  refine lv_aload_n hx hb dJ9_init_2_4 rfl (lv_at hl 0 rfl) ?_
  refine lv_aload_n hx hb dJ9_init_2_5 rfl (lv_at hl 0 rfl) ?_
  obtain ⟨V_1, e_2, h⟩ := bO_e h
  refine vp_v (v := .ref a0) S hK hV hS fJ9_7 (Or.inl rfl) (va_rf_nar (r := some a0)).1 (va_rf_nar (r := some a0)).2 e_2 dJ9_init_2_6 (fun H locs hV hS => ?_)
  refine lv_aload_n hx hb dJ9_init_2_9 rfl (lv_at hl 0 rfl) ?_
  refine vgs_U S hG hS q543 dJ9_init_2_10 (fun p_3 => ?_)
  replace h := h p_3
  obtain ⟨V_4, e_5, h⟩ := bO_e h
  refine vp_v (v := va_rf p_3) S hK hV hS fJ9_17 (Or.inl rfl) (va_rf_narA (r := p_3)).1 (va_rf_narA (r := p_3)).2 e_5 dJ9_init_2_13 (fun H locs hV hS => ?_)
  refine lv_aload_n hx hb dJ9_init_2_16 rfl (lv_at hl 0 rfl) ?_
  refine vgs_N S hG hS q545 dJ9_init_2_17 (fun p_6 => ?_)
  replace h := h p_6
  obtain ⟨V_7, e_8, h⟩ := bO_e h
  refine vp_v (v := va_rf p_6) S hK hV hS fJ9_24 (Or.inl rfl) (va_rf_nar (r := p_6)).1 (va_rf_nar (r := p_6)).2 e_8 dJ9_init_2_20 (fun H locs hV hS => ?_)
  refine lv_iload hx hb dJ9_init_2_23 (lv_at hl 4 rfl) ?_
  refine lv_if_eq (tgt := 36) hx hb dJ9_init_2_25 (by decide) (fun c_9 => ?_) (fun c_9 => ?_)
  · replace h := h.1 c_9
    refine lv_aload_n hx hb dJ9_init_2_36 rfl (lv_at hl 0 rfl) ?_
    refine lv_null hx hb dJ9_init_2_37 ?_
    obtain ⟨V_10, e_11, h⟩ := bO_e h
    refine vp_v (v := va_rf none) S hK hV hS fJ9_17 (Or.inl rfl) (va_rf_narA (r := none)).1 (va_rf_narA (r := none)).2 e_11 dJ9_init_2_38 (fun H locs hV hS => ?_)
    exact C41 _ _ _ _ hV hS (lv_sub hl [0, 1, 2, 3, 4] rfl) h
  · replace h := h.2 c_9
    refine lv_aload_n hx hb dJ9_init_2_28 rfl (lv_at hl 0 rfl) ?_
    exact h.elim
def vJ10_init (cA : Nat → ClassId) (a0 : Nat) (a1 : Option Nat) (a2 : Option Nat) (a3 : Int32) (a4 : Int32) (V : VS) (Post : VS → Prop) : Prop := vJ9_init_2 cA a0 a1 a2 a3 a4 V (fun V_2 => Post V_2)
abbrev rJ10_init : Room := { frames := 2, cells := 0, slots := 0, locals := 48 }
theorem cdJ10_init : yJ10_init.cls ≠ "java/lang/invoke/MethodHandle" ∧ yJ10_init.cls ≠ "java/lang/invoke/VarHandle" ∧ (parseMethodDescriptor yJ10_init.desc).map (fun d => d.parameters.length) = some 4 := by decide +kernel
set_option maxHeartbeats 4000000 in
set_option maxRecDepth 100000 in
theorem mvJ10_init (l : Launch) {D : va_G} {cA : Nat → ClassId} {A : Nat → Prop} (a0 : Nat) (a1 : Option Nat) (a2 : Option Nat) (a3 : Int32) (a4 : Int32) (V : VS) (Post : VS → Prop) (h : vJ10_init cA a0 a1 a2 a3 a4 V Post) : Met l yJ10_init (ws_ yJ10_init cJ10_init 5 none) rJ10_init (vPc [.ref a0, va_rf a1, va_rf a2, .int a3, .int a4] D cA A V) (va_Qv Post (vB D A) A) 0 0 A := by
  refine vstM (own := RJ10) (by decide) rfl (by cases a1 <;> cases a2 <;> exact Nat.le_of_ble_eq_true rfl) ?_
  intro p e s m args below meth c ls X hret hV hS hl
  obtain ⟨S, hK, hG, hA, hnm, hlocks⟩ := X
  have hx := S.1
  have hb := S.2.1
  have hl : lv_has ls 5 [(0, .ref a0), (1, va_rf a1), (2, va_rf a2), (3, .int a3), (4, .int a4)] := by cases a1 <;> cases a2 <;> exact hl
  unfold vJ10_init at h
  refine lv_aload_n hx hb dJ10_init_0 rfl (lv_at hl 0 rfl) ?_
  refine lv_aload_nQ hx hb dJ10_init_1 rfl (lv_at hl 1 rfl) ?_
  refine lv_aload_nQ hx hb dJ10_init_2 rfl (lv_at hl 2 rfl) ?_
  refine lv_iload_n hx hb dJ10_init_3 rfl (lv_at hl 3 rfl) ?_
  refine lv_iload hx hb dJ10_init_4 (lv_at hl 4 rfl) ?_
  refine vk_v (vr_I (As := [va_rf a1, va_rf a2, .int a3, .int a4]) (rest := []) S hK hG hA hV hS (mvJ9_init_2 l a0 a1 a2 a3 a4 V _ h) (cwI 4 S.2.2.2.2 (lw_meth q568) rfl rfl rfl (S.2.2.2.2 _ q152) (S.2.2.2.2 _ q566) (S.2.2.2.2 _ q567) rfl cdJ9_init_2 ⟨Nat.le_of_ble_eq_true rfl, Nat.le_of_ble_eq_true rfl⟩) rfl hl.1 (Nat.le_of_ble_eq_true rfl) dJ10_init_6 ⟨Nat.le_refl _, Nat.le_refl _⟩) hS (fun V_2 H locs h hV hS => ?_)
  exact ve_v S hlocks hret hV hS h (Nat.le_refl _) (Nat.le_refl _) dJ10_init_9
def vX2_init (cA : Nat → ClassId) (a0 : Nat) (a1 : Nat) (V : VS) (Post : VS → Prop) : Prop := bO (pF V [2] a0 7 (.ref a1)) (fun V_1 => Post V_1)
abbrev rX2_init : Room := { frames := 1, cells := 0, slots := 0, locals := 24 }
theorem cdX2_init : yX2_init.cls ≠ "java/lang/invoke/MethodHandle" ∧ yX2_init.cls ≠ "java/lang/invoke/VarHandle" ∧ (parseMethodDescriptor yX2_init.desc).map (fun d => d.parameters.length) = some 1 := by decide +kernel
set_option maxHeartbeats 4000000 in
set_option maxRecDepth 100000 in
theorem mvX2_init (l : Launch) {D : va_G} {cA : Nat → ClassId} {A : Nat → Prop} (a0 : Nat) (a1 : Nat) (V : VS) (Post : VS → Prop) (h : vX2_init cA a0 a1 V Post) : Met l yX2_init (ws_ yX2_init cX2_init 2 none) rX2_init (vPc [.ref a0, .ref a1] D cA A V) (va_Qv Post (vB D A) A) 0 0 A := by
  refine vstM (own := RX2) (by decide) rfl (Nat.le_of_ble_eq_true rfl) ?_
  intro p e s m args below meth c ls X hret hV hS hl
  obtain ⟨S, hK, hG, hA, hnm, hlocks⟩ := X
  have hx := S.1
  have hb := S.2.1
  have hl : lv_has ls 2 [(0, .ref a0), (1, .ref a1)] := hl
  unfold vX2_init at h
  refine lv_aload_n hx hb dX2_init_0 rfl (lv_at hl 0 rfl) ?_
  refine lv_aload_n hx hb dX2_init_1 rfl (lv_at hl 1 rfl) ?_
  obtain ⟨V_1, e_2, h⟩ := bO_e h
  refine vp_v (v := .ref a1) S hK hV hS fX2_3 (Or.inr ⟨hnm, by decide +kernel, by decide +kernel⟩) (va_rf_nar (r := some a1)).1 (va_rf_nar (r := some a1)).2 e_2 dX2_init_2 (fun H locs hV hS => ?_)
  refine lv_aload_n hx hb dX2_init_5 rfl (lv_at hl 0 rfl) ?_
  refine W.objInit hx hb S.2.2.2.1 (S.2.2.2.2 _ q188) (S.2.2.2.2 _ q181) (S.2.2.2.2 _ q182) rfl (hl.1.trans S.2.2.1.symm) rfl dX2_init_6 (Nat.le_of_ble_eq_true rfl) (Nat.le_of_ble_eq_true rfl) ?_
  refine W.eq (g2 := F0 m 9 ls []) rfl ?_
  exact ve_v S hlocks hret hV hS h (Nat.le_refl _) (Nat.le_refl _) dX2_init_9
def vX3_init (cA : Nat → ClassId) (a0 : Nat) (V : VS) (MC MS : Nat) (Post : VS → Prop) : Prop := (0 + 1 ≤ MC ∧ 0 + 3 ≤ MS ∧ ∀ (q_1 : Nat) (V_2 : VS), V q_1 = none → V_2 = vU V q_1 (.inr (14, [.int 0, .null, .int 0])) → ∃ mc_5 ms_6 : Nat, 0 + 1 + mc_5 ≤ MC ∧ 0 + 3 + ms_6 ≤ MS ∧ vJ2_init cA q_1 (8 : Int32) V_2 mc_5 ms_6 (fun V_4 => bO (pF V_4 [3] a0 0 (.ref q_1)) (fun V_7 => (0 + 1 + mc_5 + 1 ≤ MC ∧ 0 + 3 + ms_6 + 3 ≤ MS ∧ ∀ (q_9 : Nat) (V_10 : VS), V_7 q_9 = none → V_10 = vU V_7 q_9 (.inr (14, [.int 0, .null, .int 0])) → ∃ mc_13 ms_14 : Nat, 0 + 1 + mc_5 + 1 + mc_13 ≤ MC ∧ 0 + 3 + ms_6 + 3 + ms_14 ≤ MS ∧ vJ2_init cA q_9 (5 : Int32) V_10 mc_13 ms_14 (fun V_12 => bO (pF V_12 [3] a0 1 (.ref q_9)) (fun V_15 => (0 + 1 + mc_5 + 1 + mc_13 + 1 ≤ MC ∧ 0 + 3 + ms_6 + 3 + ms_14 + 3 ≤ MS ∧ ∀ (q_17 : Nat) (V_18 : VS), V_15 q_17 = none → V_18 = vU V_15 q_17 (.inr (14, [.int 0, .null, .int 0])) → ∃ mc_21 ms_22 : Nat, 0 + 1 + mc_5 + 1 + mc_13 + 1 + mc_21 ≤ MC ∧ 0 + 3 + ms_6 + 3 + ms_14 + 3 + ms_22 ≤ MS ∧ vJ2_init cA q_17 (60 : Int32) V_18 mc_21 ms_22 (fun V_20 => bO (pF V_20 [3] a0 2 (.ref q_17)) (fun V_23 => (0 + 1 + mc_5 + 1 + mc_13 + 1 + mc_21 + 1 ≤ MC ∧ 0 + 3 + ms_6 + 3 + ms_14 + 3 + ms_22 + 3 ≤ MS ∧ ∀ (q_25 : Nat) (V_26 : VS), V_23 q_25 = none → V_26 = vU V_23 q_25 (.inr (14, [.int 0, .null, .int 0])) → ∃ mc_29 ms_30 : Nat, 0 + 1 + mc_5 + 1 + mc_13 + 1 + mc_21 + 1 + mc_29 ≤ MC ∧ 0 + 3 + ms_6 + 3 + ms_14 + 3 + ms_22 + 3 + ms_30 ≤ MS ∧ vJ2_init cA q_25 (20 : Int32) V_26 mc_29 ms_30 (fun V_28 => bO (pF V_28 [3] a0 3 (.ref q_25)) (fun V_31 => (¬ (3 : Int32) < 0 ∧ 0 + 1 + mc_5 + 1 + mc_13 + 1 + mc_21 + 1 + mc_29 + 1 ≤ MC ∧ 0 + 3 + ms_6 + 3 + ms_14 + 3 + ms_22 + 3 + ms_30 + (3 : Int32).toNatClampNeg ≤ MS ∧ (3 : Int32).toNatClampNeg * 4 ≤ 536870912 ∧ ∀ (q_34 : Nat) (V_35 : VS), V_31 q_34 = none → V_35 = vU V_31 q_34 (.inl (cA 5, (3 : Int32).toNatClampNeg, .inr (.inr (.inr (.inr (fun _ => none)))))) → bO (pF V_35 [3] a0 4 (.ref q_34)) (fun V_36 => Post V_36))))))))))))))
abbrev rX3_init (MC MS : Nat) : Room := { frames := 4, cells := MC, slots := MS, locals := 85 }
theorem cdX3_init : yX3_init.cls ≠ "java/lang/invoke/MethodHandle" ∧ yX3_init.cls ≠ "java/lang/invoke/VarHandle" ∧ (parseMethodDescriptor yX3_init.desc).map (fun d => d.parameters.length) = some 0 := by decide +kernel
set_option maxHeartbeats 4000000 in
set_option maxRecDepth 100000 in
theorem mvX3_init (l : Launch) {D : va_G} {cA : Nat → ClassId} {A : Nat → Prop} (a0 : Nat) (V : VS) (MC MS : Nat) (Post : VS → Prop) (h : vX3_init cA a0 V MC MS Post) : Met l yX3_init (ws_ yX3_init cX3_init 1 none) (rX3_init MC MS) (vPc [.ref a0] D cA A V) (va_Qv Post (vB D A) A) MC MS A := by
  refine vstM (own := RX3) (by decide) rfl (Nat.le_of_ble_eq_true rfl) ?_
  intro p e s m args below meth c ls X hret hV hS hl
  obtain ⟨S, hK, hG, hA, hnm, hlocks⟩ := X
  have hx := S.1
  have hb := S.2.1
  have hk : 0 ≤ MC ∧ 0 ≤ MS := ⟨Nat.zero_le _, Nat.zero_le _⟩
  have hl : lv_has ls 1 [(0, .ref a0)] := hl
  unfold vX3_init at h
  refine lv_aload_n hx hb dX3_init_0 rfl (lv_at hl 0 rfl) ?_
  refine W.objInit hx hb S.2.2.2.1 (S.2.2.2.2 _ q220) (S.2.2.2.2 _ q181) (S.2.2.2.2 _ q182) rfl (hl.1.trans S.2.2.1.symm) rfl dX3_init_1 (Nat.le_of_ble_eq_true rfl) (Nat.le_of_ble_eq_true rfl) ?_
  refine W.eq (g2 := F0 m 4 ls []) rfl ?_
  refine lv_aload_n hx hb dX3_init_4 rfl (lv_at hl 0 rfl) ?_
  obtain ⟨hc1, hc2, h⟩ := h
  refine vw_new (ci := 14) (fs := [.int 0, .null, .int 0]) (C := RJ2) (T := TJ2) (N := 3) S hK hV hS hA in_J2 tyJ2 tyJ2_ok q221 q222 q144 rfl (fun j hj => by first | (rcases j with _ | _ | _ | _ | _ | _ | _ | _ | _ | _ | _ | _ | _ | _ | _ | _ | _ | _ | _ | _ | _ | j <;> first | rfl | omega)) hc1 hc2 dX3_init_5 (fun q_1 V_2 H g1 g2 hV hS => ?_)
  replace h := h q_1 V_2 g1 g2
  have hk : 0 + 1 ≤ MC ∧ 0 + 3 ≤ MS := ⟨hc1, hc2⟩
  refine lv_dup hx hb dX3_init_8 rfl ?_
  refine lv_bipush hx hb dX3_init_9 kb_8 ?_
  obtain ⟨mc_5, ms_6, hc1, hc2, h⟩ := h
  refine vk_v (vr_I (As := [.int (8 : Int32)]) (rest := [.ref q_1, .ref a0]) S hK hG hA hV hS (mvJ2_init l q_1 (8 : Int32) V_2 mc_5 ms_6 _ h) (cwI 1 S.2.2.2.2 (lw_meth q225) rfl rfl rfl (S.2.2.2.2 _ q144) (S.2.2.2.2 _ q223) (S.2.2.2.2 _ q224) rfl cdJ2_init ⟨Nat.le_of_ble_eq_true rfl, Nat.le_of_ble_eq_true rfl⟩) rfl hl.1 (Nat.le_of_ble_eq_true rfl) dX3_init_11 ⟨hc1, hc2⟩) hS (fun V_4 H locs h hV hS => ?_)
  have hk : 0 + 1 + mc_5 ≤ MC ∧ 0 + 3 + ms_6 ≤ MS := ⟨hc1, hc2⟩
  obtain ⟨V_7, e_8, h⟩ := bO_e h
  refine vp_v (v := .ref q_1) S hK hV hS fX3_14 (Or.inr ⟨hnm, by decide +kernel, by decide +kernel⟩) (va_rf_nar (r := some q_1)).1 (va_rf_nar (r := some q_1)).2 e_8 dX3_init_14 (fun H locs hV hS => ?_)
  refine lv_aload_n hx hb dX3_init_17 rfl (lv_at hl 0 rfl) ?_
  obtain ⟨hc1, hc2, h⟩ := h
  refine vw_new (ci := 14) (fs := [.int 0, .null, .int 0]) (C := RJ2) (T := TJ2) (N := 3) S hK hV hS hA in_J2 tyJ2 tyJ2_ok q221 q222 q144 rfl (fun j hj => by first | (rcases j with _ | _ | _ | _ | _ | _ | _ | _ | _ | _ | _ | _ | _ | _ | _ | _ | _ | _ | _ | _ | _ | j <;> first | rfl | omega)) hc1 hc2 dX3_init_18 (fun q_9 V_10 H g1 g2 hV hS => ?_)
  replace h := h q_9 V_10 g1 g2
  have hk : 0 + 1 + mc_5 + 1 ≤ MC ∧ 0 + 3 + ms_6 + 3 ≤ MS := ⟨hc1, hc2⟩
  refine lv_dup hx hb dX3_init_21 rfl ?_
  refine lv_iconst hx hb dX3_init_22 kc_5 ?_
  obtain ⟨mc_13, ms_14, hc1, hc2, h⟩ := h
  refine vk_v (vr_I (As := [.int (5 : Int32)]) (rest := [.ref q_9, .ref a0]) S hK hG hA hV hS (mvJ2_init l q_9 (5 : Int32) V_10 mc_13 ms_14 _ h) (cwI 1 S.2.2.2.2 (lw_meth q225) rfl rfl rfl (S.2.2.2.2 _ q144) (S.2.2.2.2 _ q223) (S.2.2.2.2 _ q224) rfl cdJ2_init ⟨Nat.le_of_ble_eq_true rfl, Nat.le_of_ble_eq_true rfl⟩) rfl hl.1 (Nat.le_of_ble_eq_true rfl) dX3_init_23 ⟨hc1, hc2⟩) hS (fun V_12 H locs h hV hS => ?_)
  have hk : 0 + 1 + mc_5 + 1 + mc_13 ≤ MC ∧ 0 + 3 + ms_6 + 3 + ms_14 ≤ MS := ⟨hc1, hc2⟩
  obtain ⟨V_15, e_16, h⟩ := bO_e h
  refine vp_v (v := .ref q_9) S hK hV hS fX3_20 (Or.inr ⟨hnm, by decide +kernel, by decide +kernel⟩) (va_rf_nar (r := some q_9)).1 (va_rf_nar (r := some q_9)).2 e_16 dX3_init_26 (fun H locs hV hS => ?_)
  refine lv_aload_n hx hb dX3_init_29 rfl (lv_at hl 0 rfl) ?_
  obtain ⟨hc1, hc2, h⟩ := h
  refine vw_new (ci := 14) (fs := [.int 0, .null, .int 0]) (C := RJ2) (T := TJ2) (N := 3) S hK hV hS hA in_J2 tyJ2 tyJ2_ok q221 q222 q144 rfl (fun j hj => by first | (rcases j with _ | _ | _ | _ | _ | _ | _ | _ | _ | _ | _ | _ | _ | _ | _ | _ | _ | _ | _ | _ | _ | j <;> first | rfl | omega)) hc1 hc2 dX3_init_30 (fun q_17 V_18 H g1 g2 hV hS => ?_)
  replace h := h q_17 V_18 g1 g2
  have hk : 0 + 1 + mc_5 + 1 + mc_13 + 1 ≤ MC ∧ 0 + 3 + ms_6 + 3 + ms_14 + 3 ≤ MS := ⟨hc1, hc2⟩
  refine lv_dup hx hb dX3_init_33 rfl ?_
  refine lv_bipush hx hb dX3_init_34 kb_60 ?_
  obtain ⟨mc_21, ms_22, hc1, hc2, h⟩ := h
  refine vk_v (vr_I (As := [.int (60 : Int32)]) (rest := [.ref q_17, .ref a0]) S hK hG hA hV hS (mvJ2_init l q_17 (60 : Int32) V_18 mc_21 ms_22 _ h) (cwI 1 S.2.2.2.2 (lw_meth q225) rfl rfl rfl (S.2.2.2.2 _ q144) (S.2.2.2.2 _ q223) (S.2.2.2.2 _ q224) rfl cdJ2_init ⟨Nat.le_of_ble_eq_true rfl, Nat.le_of_ble_eq_true rfl⟩) rfl hl.1 (Nat.le_of_ble_eq_true rfl) dX3_init_36 ⟨hc1, hc2⟩) hS (fun V_20 H locs h hV hS => ?_)
  have hk : 0 + 1 + mc_5 + 1 + mc_13 + 1 + mc_21 ≤ MC ∧ 0 + 3 + ms_6 + 3 + ms_14 + 3 + ms_22 ≤ MS := ⟨hc1, hc2⟩
  obtain ⟨V_23, e_24, h⟩ := bO_e h
  refine vp_v (v := .ref q_17) S hK hV hS fX3_23 (Or.inr ⟨hnm, by decide +kernel, by decide +kernel⟩) (va_rf_nar (r := some q_17)).1 (va_rf_nar (r := some q_17)).2 e_24 dX3_init_39 (fun H locs hV hS => ?_)
  refine lv_aload_n hx hb dX3_init_42 rfl (lv_at hl 0 rfl) ?_
  obtain ⟨hc1, hc2, h⟩ := h
  refine vw_new (ci := 14) (fs := [.int 0, .null, .int 0]) (C := RJ2) (T := TJ2) (N := 3) S hK hV hS hA in_J2 tyJ2 tyJ2_ok q221 q222 q144 rfl (fun j hj => by first | (rcases j with _ | _ | _ | _ | _ | _ | _ | _ | _ | _ | _ | _ | _ | _ | _ | _ | _ | _ | _ | _ | _ | j <;> first | rfl | omega)) hc1 hc2 dX3_init_43 (fun q_25 V_26 H g1 g2 hV hS => ?_)
  replace h := h q_25 V_26 g1 g2
  have hk : 0 + 1 + mc_5 + 1 + mc_13 + 1 + mc_21 + 1 ≤ MC ∧ 0 + 3 + ms_6 + 3 + ms_14 + 3 + ms_22 + 3 ≤ MS := ⟨hc1, hc2⟩
  refine lv_dup hx hb dX3_init_46 rfl ?_
  refine lv_bipush hx hb dX3_init_47 kb_20 ?_
  obtain ⟨mc_29, ms_30, hc1, hc2, h⟩ := h
  refine vk_v (vr_I (As := [.int (20 : Int32)]) (rest := [.ref q_25, .ref a0]) S hK hG hA hV hS (mvJ2_init l q_25 (20 : Int32) V_26 mc_29 ms_30 _ h) (cwI 1 S.2.2.2.2 (lw_meth q225) rfl rfl rfl (S.2.2.2.2 _ q144) (S.2.2.2.2 _ q223) (S.2.2.2.2 _ q224) rfl cdJ2_init ⟨Nat.le_of_ble_eq_true rfl, Nat.le_of_ble_eq_true rfl⟩) rfl hl.1 (Nat.le_of_ble_eq_true rfl) dX3_init_49 ⟨hc1, hc2⟩) hS (fun V_28 H locs h hV hS => ?_)
  have hk : 0 + 1 + mc_5 + 1 + mc_13 + 1 + mc_21 + 1 + mc_29 ≤ MC ∧ 0 + 3 + ms_6 + 3 + ms_14 + 3 + ms_22 + 3 + ms_30 ≤ MS := ⟨hc1, hc2⟩
  obtain ⟨V_31, e_32, h⟩ := bO_e h
  refine vp_v (v := .ref q_25) S hK hV hS fX3_26 (Or.inr ⟨hnm, by decide +kernel, by decide +kernel⟩) (va_rf_nar (r := some q_25)).1 (va_rf_nar (r := some q_25)).2 e_32 dX3_init_52 (fun H locs hV hS => ?_)
  refine lv_aload_n hx hb dX3_init_55 rfl (lv_at hl 0 rfl) ?_
  refine lv_iconst hx hb dX3_init_56 kc_3 ?_
  obtain ⟨hc0, hc1, hc2, hc3, h⟩ := h
  refine vw_arq S hK hV hS hA 5 rfl q249 hK.2.2.2.2.2.1 hc0 rfl hc3 hc1 hc2 dX3_init_57 (fun q_34 V_35 H g1 g2 hV hS => ?_)
  replace h := h q_34 V_35 g1 g2
  have hk : 0 + 1 + mc_5 + 1 + mc_13 + 1 + mc_21 + 1 + mc_29 + 1 ≤ MC ∧ 0 + 3 + ms_6 + 3 + ms_14 + 3 + ms_22 + 3 + ms_30 + (3 : Int32).toNatClampNeg ≤ MS := ⟨hc1, hc2⟩
  obtain ⟨V_36, e_37, h⟩ := bO_e h
  refine vp_v (v := .ref q_34) S hK hV hS fX3_31 (Or.inr ⟨hnm, by decide +kernel, by decide +kernel⟩) (va_rf_narA (r := some q_34)).1 (va_rf_narA (r := some q_34)).2 e_37 dX3_init_60 (fun H locs hV hS => ?_)
  exact ve_v S hlocks hret hV hS h hk.1 hk.2 dX3_init_63
def vX1_init (cA : Nat → ClassId) (a0 : Nat) (V : VS) (MC MS : Nat) (Post : VS → Prop) : Prop := (0 + 1 ≤ MC ∧ 0 + 800 ≤ MS ∧ ∀ (q_1 : Nat) (V_2 : VS), V q_1 = none → V_2 = vU V q_1 (.inl (cA 3, 800, .inl (fun _ => 0))) → bO (pF V_2 [1] a0 0 (.ref q_1)) (fun V_3 => bO (pF V_3 [1] a0 3 (.int (-1 : Int32))) (fun V_5 => bO (pF V_5 [1] a0 4 (.int (199 : Int32))) (fun V_7 => bO (pF V_7 [1] a0 5 (.int (9 : Int32))) (fun V_9 => bO (pF V_9 [1] a0 8 (.int (1 : Int32))) (fun V_11 => bO (pF V_11 [1] a0 9 (.int (1 : Int32))) (fun V_13 => (0 + 1 + 1 ≤ MC ∧ 0 + 800 + 8 ≤ MS ∧ ∀ (q_15 : Nat) (V_16 : VS), V_13 q_15 = none → V_16 = vU V_13 q_15 (.inr (2, [.int 0, .int 0, .int 0, .int 0, .int 0, .int 0, .null, .null])) → vX2_init cA q_15 a0 V_16 (fun V_18 => bO (pF V_18 [1] a0 10 (.ref q_15)) (fun V_19 => (0 + 1 + 1 + 1 ≤ MC ∧ 0 + 800 + 8 + 7 ≤ MS ∧ ∀ (q_21 : Nat) (V_22 : VS), V_19 q_21 = none → V_22 = vU V_19 q_21 (.inr (3, [.null, .null, .null, .null, .null, .int 0, .int 0])) → ∃ mc_25 ms_26 : Nat, 0 + 1 + 1 + 1 + mc_25 ≤ MC ∧ 0 + 800 + 8 + 7 + ms_26 ≤ MS ∧ vX3_init cA q_21 V_22 mc_25 ms_26 (fun V_24 => bO (pF V_24 [1] a0 11 (.ref q_21)) (fun V_27 => (0 + 1 + 1 + 1 + mc_25 + 1 ≤ MC ∧ 0 + 800 + 8 + 7 + ms_26 + 10 ≤ MS ∧ ∀ (q_29 : Nat) (V_30 : VS), V_27 q_29 = none → V_30 = vU V_27 q_29 (.inl (cA 2, 10, .inr (.inl (fun _ => 0)))) → bO (pF V_30 [1] a0 12 (.ref q_29)) (fun V_31 => (0 + 1 + 1 + 1 + mc_25 + 1 + 1 ≤ MC ∧ 0 + 800 + 8 + 7 + ms_26 + 10 + 20 ≤ MS ∧ ∀ (q_33 : Nat) (V_34 : VS), V_31 q_33 = none → V_34 = vU V_31 q_33 (.inl (cA 0, 20, .inl (fun _ => 0))) → bO (pF V_34 [1] a0 15 (.ref q_33)) (fun V_35 => (0 + 1 + 1 + 1 + mc_25 + 1 + 1 + 1 ≤ MC ∧ 0 + 800 + 8 + 7 + ms_26 + 10 + 20 + 20 ≤ MS ∧ ∀ (q_37 : Nat) (V_38 : VS), V_35 q_37 = none → V_38 = vU V_35 q_37 (.inl (cA 0, 20, .inl (fun _ => 0))) → bO (pF V_38 [1] a0 16 (.ref q_37)) (fun V_39 => (0 + 1 + 1 + 1 + mc_25 + 1 + 1 + 1 + 1 ≤ MC ∧ 0 + 800 + 8 + 7 + ms_26 + 10 + 20 + 20 + 8 ≤ MS ∧ ∀ (q_41 : Nat) (V_42 : VS), V_39 q_41 = none → V_42 = vU V_39 q_41 (.inl (cA 0, 8, .inl (fun _ => 0))) → bO (pF V_42 [1] a0 18 (.ref q_41)) (fun V_43 => (0 + 1 + 1 + 1 + mc_25 + 1 + 1 + 1 + 1 + 1 ≤ MC ∧ 0 + 800 + 8 + 7 + ms_26 + 10 + 20 + 20 + 8 + 8 ≤ MS ∧ ∀ (q_45 : Nat) (V_46 : VS), V_43 q_45 = none → V_46 = vU V_43 q_45 (.inl (cA 0, 8, .inl (fun _ => 0))) → bO (pF V_46 [1] a0 19 (.ref q_45)) (fun V_47 => (0 + 1 + 1 + 1 + mc_25 + 1 + 1 + 1 + 1 + 1 + 1 ≤ MC ∧ 0 + 800 + 8 + 7 + ms_26 + 10 + 20 + 20 + 8 + 8 + 8 ≤ MS ∧ ∀ (q_49 : Nat) (V_50 : VS), V_47 q_49 = none → V_50 = vU V_47 q_49 (.inl (cA 0, 8, .inl (fun _ => 0))) → bO (pF V_50 [1] a0 20 (.ref q_49)) (fun V_51 => Post V_51)))))))))))))))))))))))))
abbrev rX1_init (MC MS : Nat) : Room := { frames := 5, cells := MC, slots := MS, locals := 105 }
theorem cdX1_init : yX1_init.cls ≠ "java/lang/invoke/MethodHandle" ∧ yX1_init.cls ≠ "java/lang/invoke/VarHandle" ∧ (parseMethodDescriptor yX1_init.desc).map (fun d => d.parameters.length) = some 0 := by decide +kernel
set_option maxHeartbeats 4000000 in
set_option maxRecDepth 100000 in
theorem mvX1_init (l : Launch) {D : va_G} {cA : Nat → ClassId} {A : Nat → Prop} (a0 : Nat) (V : VS) (MC MS : Nat) (Post : VS → Prop) (h : vX1_init cA a0 V MC MS Post) : Met l yX1_init (ws_ yX1_init cX1_init 1 none) (rX1_init MC MS) (vPc [.ref a0] D cA A V) (va_Qv Post (vB D A) A) MC MS A := by
  refine vstM (own := RX1) (by decide) rfl (Nat.le_of_ble_eq_true rfl) ?_
  intro p e s m args below meth c ls X hret hV hS hl
  obtain ⟨S, hK, hG, hA, hnm, hlocks⟩ := X
  have hx := S.1
  have hb := S.2.1
  have hk : 0 ≤ MC ∧ 0 ≤ MS := ⟨Nat.zero_le _, Nat.zero_le _⟩
  have hl : lv_has ls 1 [(0, .ref a0)] := hl
  unfold vX1_init at h
  refine lv_aload_n hx hb dX1_init_0 rfl (lv_at hl 0 rfl) ?_
  refine W.objInit hx hb S.2.2.2.1 (S.2.2.2.2 _ q180) (S.2.2.2.2 _ q181) (S.2.2.2.2 _ q182) rfl (hl.1.trans S.2.2.1.symm) rfl dX1_init_1 (Nat.le_of_ble_eq_true rfl) (Nat.le_of_ble_eq_true rfl) ?_
  refine W.eq (g2 := F0 m 4 ls []) rfl ?_
  refine lv_aload_n hx hb dX1_init_4 rfl (lv_at hl 0 rfl) ?_
  refine lv_sipush hx hb dX1_init_5 ks_800 ?_
  obtain ⟨hc1, hc2, h⟩ := h
  refine vw_arr (atype := .byte) (ty := .byte) (N' := 800) (a0 := (800, .inl (fun _ => 0))) S hK hV hS hA 3 q214 rfl rfl (fun C h => by cases h) (fun cA => rfl) (by decide) (by decide) (by decide) hc1 hc2 dX1_init_8 (fun q_1 V_2 H g1 g2 hV hS => ?_)
  replace h := h q_1 V_2 g1 g2
  have hk : 0 + 1 ≤ MC ∧ 0 + 800 ≤ MS := ⟨hc1, hc2⟩
  obtain ⟨V_3, e_4, h⟩ := bO_e h
  refine vp_v (v := .ref q_1) S hK hV hS fX1_17 (Or.inr ⟨hnm, by decide +kernel, by decide +kernel⟩) (va_rf_narA (r := some q_1)).1 (va_rf_narA (r := some q_1)).2 e_4 dX1_init_10 (fun H locs hV hS => ?_)
  refine lv_aload_n hx hb dX1_init_13 rfl (lv_at hl 0 rfl) ?_
  refine lv_iconst hx hb dX1_init_14 kc_m1 ?_
  obtain ⟨V_5, e_6, h⟩ := bO_e h
  refine vp_v (v := .int (-1 : Int32)) S hK hV hS fX1_21 (Or.inl rfl) rfl rfl e_6 dX1_init_15 (fun H locs hV hS => ?_)
  refine lv_aload_n hx hb dX1_init_18 rfl (lv_at hl 0 rfl) ?_
  refine lv_sipush hx hb dX1_init_19 ks_199 ?_
  obtain ⟨V_7, e_8, h⟩ := bO_e h
  refine vp_v (v := .int (199 : Int32)) S hK hV hS fX1_25 (Or.inl rfl) rfl rfl e_8 dX1_init_22 (fun H locs hV hS => ?_)
  refine lv_aload_n hx hb dX1_init_25 rfl (lv_at hl 0 rfl) ?_
  refine lv_bipush hx hb dX1_init_26 kb_9 ?_
  obtain ⟨V_9, e_10, h⟩ := bO_e h
  refine vp_v (v := .int (9 : Int32)) S hK hV hS fX1_28 (Or.inl rfl) rfl rfl e_10 dX1_init_28 (fun H locs hV hS => ?_)
  refine lv_aload_n hx hb dX1_init_31 rfl (lv_at hl 0 rfl) ?_
  refine lv_iconst hx hb dX1_init_32 kc_1 ?_
  obtain ⟨V_11, e_12, h⟩ := bO_e h
  refine vp_v (v := .int (1 : Int32)) S hK hV hS fX1_31 (Or.inl rfl) rfl rfl e_12 dX1_init_33 (fun H locs hV hS => ?_)
  refine lv_aload_n hx hb dX1_init_36 rfl (lv_at hl 0 rfl) ?_
  refine lv_iconst hx hb dX1_init_37 kc_1 ?_
  obtain ⟨V_13, e_14, h⟩ := bO_e h
  refine vp_v (v := .int (1 : Int32)) S hK hV hS fX1_34 (Or.inl rfl) rfl rfl e_14 dX1_init_38 (fun H locs hV hS => ?_)
  refine lv_aload_n hx hb dX1_init_41 rfl (lv_at hl 0 rfl) ?_
  obtain ⟨hc1, hc2, h⟩ := h
  refine vw_new (ci := 2) (fs := [.int 0, .int 0, .int 0, .int 0, .int 0, .int 0, .null, .null]) (C := RX2) (T := TX2) (N := 8) S hK hV hS hA in_X2 tyX2 tyX2_ok q183 q184 q140 rfl (fun j hj => by first | (rcases j with _ | _ | _ | _ | _ | _ | _ | _ | _ | _ | _ | _ | _ | _ | _ | _ | _ | _ | _ | _ | _ | j <;> first | rfl | omega)) hc1 hc2 dX1_init_42 (fun q_15 V_16 H g1 g2 hV hS => ?_)
  replace h := h q_15 V_16 g1 g2
  have hk : 0 + 1 + 1 ≤ MC ∧ 0 + 800 + 8 ≤ MS := ⟨hc1, hc2⟩
  refine lv_dup hx hb dX1_init_45 rfl ?_
  refine lv_aload_n hx hb dX1_init_46 rfl (lv_at hl 0 rfl) ?_
  refine vk_v (vr_IN (As := [.ref a0]) (rest := [.ref q_15, .ref a0]) S hK hG hA hV hS (mvX2_init l q_15 a0 V_16 _ h) ⟨va_cnB 1 S.2.2.2.2 (lw_meth q187) rfl rfl rfl (hK.2.2.1 (_, _, _, "SaidSo") (List.mem_of_getElem? (i := 0) rfl)) (S.2.2.2.2 _ q140) cdX2_init ⟨Nat.le_of_ble_eq_true rfl, Nat.le_of_ble_eq_true rfl⟩, rfl, S.2.2.2.2 _ q186⟩ rfl hl.1 (Nat.le_of_ble_eq_true rfl) dX1_init_47 ⟨hk.1, hk.2⟩) hS (fun V_18 H locs h hV hS => ?_)
  obtain ⟨V_19, e_20, h⟩ := bO_e h
  refine vp_v (v := .ref q_15) S hK hV hS fX1_42 (Or.inr ⟨hnm, by decide +kernel, by decide +kernel⟩) (va_rf_nar (r := some q_15)).1 (va_rf_nar (r := some q_15)).2 e_20 dX1_init_50 (fun H locs hV hS => ?_)
  refine lv_aload_n hx hb dX1_init_53 rfl (lv_at hl 0 rfl) ?_
  obtain ⟨hc1, hc2, h⟩ := h
  refine vw_new (ci := 3) (fs := [.null, .null, .null, .null, .null, .int 0, .int 0]) (C := RX3) (T := TX3) (N := 7) S hK hV hS hA in_X3 tyX3 tyX3_ok q215 q216 q141 rfl (fun j hj => by first | (rcases j with _ | _ | _ | _ | _ | _ | _ | _ | _ | _ | _ | _ | _ | _ | _ | _ | _ | _ | _ | _ | _ | j <;> first | rfl | omega)) hc1 hc2 dX1_init_54 (fun q_21 V_22 H g1 g2 hV hS => ?_)
  replace h := h q_21 V_22 g1 g2
  have hk : 0 + 1 + 1 + 1 ≤ MC ∧ 0 + 800 + 8 + 7 ≤ MS := ⟨hc1, hc2⟩
  refine lv_dup hx hb dX1_init_57 rfl ?_
  obtain ⟨mc_25, ms_26, hc1, hc2, h⟩ := h
  refine vk_v (vr_IN (As := []) (rest := [.ref q_21, .ref a0]) S hK hG hA hV hS (mvX3_init l q_21 V_22 mc_25 ms_26 _ h) ⟨va_cnB 0 S.2.2.2.2 (lw_meth q219) rfl rfl rfl (hK.2.2.1 (_, _, _, "SaidSo") (List.mem_of_getElem? (i := 1) rfl)) (S.2.2.2.2 _ q141) cdX3_init ⟨Nat.le_of_ble_eq_true rfl, Nat.le_of_ble_eq_true rfl⟩, rfl, S.2.2.2.2 _ q218⟩ rfl hl.1 (Nat.le_of_ble_eq_true rfl) dX1_init_58 ⟨hc1, hc2⟩) hS (fun V_24 H locs h hV hS => ?_)
  have hk : 0 + 1 + 1 + 1 + mc_25 ≤ MC ∧ 0 + 800 + 8 + 7 + ms_26 ≤ MS := ⟨hc1, hc2⟩
  obtain ⟨V_27, e_28, h⟩ := bO_e h
  refine vp_v (v := .ref q_21) S hK hV hS fX1_49 (Or.inl rfl) (va_rf_nar (r := some q_21)).1 (va_rf_nar (r := some q_21)).2 e_28 dX1_init_61 (fun H locs hV hS => ?_)
  refine lv_aload_n hx hb dX1_init_64 rfl (lv_at hl 0 rfl) ?_
  refine lv_bipush hx hb dX1_init_65 kb_10 ?_
  obtain ⟨hc1, hc2, h⟩ := h
  refine vw_arr (atype := .long) (ty := .long) (N' := 10) (a0 := (10, .inr (.inl (fun _ => 0)))) S hK hV hS hA 2 q352 rfl rfl (fun C h => by cases h) (fun cA => rfl) (by decide) (by decide) (by decide) hc1 hc2 dX1_init_67 (fun q_29 V_30 H g1 g2 hV hS => ?_)
  replace h := h q_29 V_30 g1 g2
  have hk : 0 + 1 + 1 + 1 + mc_25 + 1 ≤ MC ∧ 0 + 800 + 8 + 7 + ms_26 + 10 ≤ MS := ⟨hc1, hc2⟩
  obtain ⟨V_31, e_32, h⟩ := bO_e h
  refine vp_v (v := .ref q_29) S hK hV hS fX1_53 (Or.inr ⟨hnm, by decide +kernel, by decide +kernel⟩) (va_rf_narA (r := some q_29)).1 (va_rf_narA (r := some q_29)).2 e_32 dX1_init_69 (fun H locs hV hS => ?_)
  refine lv_aload_n hx hb dX1_init_72 rfl (lv_at hl 0 rfl) ?_
  refine lv_bipush hx hb dX1_init_73 kb_20 ?_
  obtain ⟨hc1, hc2, h⟩ := h
  refine vw_arr (atype := .int) (ty := .int) (N' := 20) (a0 := (20, .inl (fun _ => 0))) S hK hV hS hA 0 q353 rfl rfl (fun C h => by cases h) (fun cA => rfl) (by decide) (by decide) (by decide) hc1 hc2 dX1_init_75 (fun q_33 V_34 H g1 g2 hV hS => ?_)
  replace h := h q_33 V_34 g1 g2
  have hk : 0 + 1 + 1 + 1 + mc_25 + 1 + 1 ≤ MC ∧ 0 + 800 + 8 + 7 + ms_26 + 10 + 20 ≤ MS := ⟨hc1, hc2⟩
  obtain ⟨V_35, e_36, h⟩ := bO_e h
  refine vp_v (v := .ref q_33) S hK hV hS fX1_57 (Or.inr ⟨hnm, by decide +kernel, by decide +kernel⟩) (va_rf_narA (r := some q_33)).1 (va_rf_narA (r := some q_33)).2 e_36 dX1_init_77 (fun H locs hV hS => ?_)
  refine lv_aload_n hx hb dX1_init_80 rfl (lv_at hl 0 rfl) ?_
  refine lv_bipush hx hb dX1_init_81 kb_20 ?_
  obtain ⟨hc1, hc2, h⟩ := h
  refine vw_arr (atype := .int) (ty := .int) (N' := 20) (a0 := (20, .inl (fun _ => 0))) S hK hV hS hA 0 q353 rfl rfl (fun C h => by cases h) (fun cA => rfl) (by decide) (by decide) (by decide) hc1 hc2 dX1_init_83 (fun q_37 V_38 H g1 g2 hV hS => ?_)
  replace h := h q_37 V_38 g1 g2
  have hk : 0 + 1 + 1 + 1 + mc_25 + 1 + 1 + 1 ≤ MC ∧ 0 + 800 + 8 + 7 + ms_26 + 10 + 20 + 20 ≤ MS := ⟨hc1, hc2⟩
  obtain ⟨V_39, e_40, h⟩ := bO_e h
  refine vp_v (v := .ref q_37) S hK hV hS fX1_61 (Or.inr ⟨hnm, by decide +kernel, by decide +kernel⟩) (va_rf_narA (r := some q_37)).1 (va_rf_narA (r := some q_37)).2 e_40 dX1_init_85 (fun H locs hV hS => ?_)
  refine lv_aload_n hx hb dX1_init_88 rfl (lv_at hl 0 rfl) ?_
  refine lv_bipush hx hb dX1_init_89 kb_8 ?_
  obtain ⟨hc1, hc2, h⟩ := h
  refine vw_arr (atype := .int) (ty := .int) (N' := 8) (a0 := (8, .inl (fun _ => 0))) S hK hV hS hA 0 q353 rfl rfl (fun C h => by cases h) (fun cA => rfl) (by decide) (by decide) (by decide) hc1 hc2 dX1_init_91 (fun q_41 V_42 H g1 g2 hV hS => ?_)
  replace h := h q_41 V_42 g1 g2
  have hk : 0 + 1 + 1 + 1 + mc_25 + 1 + 1 + 1 + 1 ≤ MC ∧ 0 + 800 + 8 + 7 + ms_26 + 10 + 20 + 20 + 8 ≤ MS := ⟨hc1, hc2⟩
  obtain ⟨V_43, e_44, h⟩ := bO_e h
  refine vp_v (v := .ref q_41) S hK hV hS fX1_64 (Or.inr ⟨hnm, by decide +kernel, by decide +kernel⟩) (va_rf_narA (r := some q_41)).1 (va_rf_narA (r := some q_41)).2 e_44 dX1_init_93 (fun H locs hV hS => ?_)
  refine lv_aload_n hx hb dX1_init_96 rfl (lv_at hl 0 rfl) ?_
  refine lv_bipush hx hb dX1_init_97 kb_8 ?_
  obtain ⟨hc1, hc2, h⟩ := h
  refine vw_arr (atype := .int) (ty := .int) (N' := 8) (a0 := (8, .inl (fun _ => 0))) S hK hV hS hA 0 q353 rfl rfl (fun C h => by cases h) (fun cA => rfl) (by decide) (by decide) (by decide) hc1 hc2 dX1_init_99 (fun q_45 V_46 H g1 g2 hV hS => ?_)
  replace h := h q_45 V_46 g1 g2
  have hk : 0 + 1 + 1 + 1 + mc_25 + 1 + 1 + 1 + 1 + 1 ≤ MC ∧ 0 + 800 + 8 + 7 + ms_26 + 10 + 20 + 20 + 8 + 8 ≤ MS := ⟨hc1, hc2⟩
  obtain ⟨V_47, e_48, h⟩ := bO_e h
  refine vp_v (v := .ref q_45) S hK hV hS fX1_67 (Or.inr ⟨hnm, by decide +kernel, by decide +kernel⟩) (va_rf_narA (r := some q_45)).1 (va_rf_narA (r := some q_45)).2 e_48 dX1_init_101 (fun H locs hV hS => ?_)
  refine lv_aload_n hx hb dX1_init_104 rfl (lv_at hl 0 rfl) ?_
  refine lv_bipush hx hb dX1_init_105 kb_8 ?_
  obtain ⟨hc1, hc2, h⟩ := h
  refine vw_arr (atype := .int) (ty := .int) (N' := 8) (a0 := (8, .inl (fun _ => 0))) S hK hV hS hA 0 q353 rfl rfl (fun C h => by cases h) (fun cA => rfl) (by decide) (by decide) (by decide) hc1 hc2 dX1_init_107 (fun q_49 V_50 H g1 g2 hV hS => ?_)
  replace h := h q_49 V_50 g1 g2
  have hk : 0 + 1 + 1 + 1 + mc_25 + 1 + 1 + 1 + 1 + 1 + 1 ≤ MC ∧ 0 + 800 + 8 + 7 + ms_26 + 10 + 20 + 20 + 8 + 8 + 8 ≤ MS := ⟨hc1, hc2⟩
  obtain ⟨V_51, e_52, h⟩ := bO_e h
  refine vp_v (v := .ref q_49) S hK hV hS fX1_70 (Or.inr ⟨hnm, by decide +kernel, by decide +kernel⟩) (va_rf_narA (r := some q_49)).1 (va_rf_narA (r := some q_49)).2 e_52 dX1_init_109 (fun H locs hV hS => ?_)
  exact ve_v S hlocks hret hV hS h hk.1 hk.2 dX1_init_112
def vX1_put_l3 (cA : Nat → ClassId) (a0 : Nat) (a1 : Int32) (Post : VS → Prop) : Nat → Int32 → VS → Prop
  | 0, _, _ => False
  | n + 1, x2, V => (x2 < 0 → (Post V)) ∧ (¬ (x2 < 0) → (bO (gR V [1] a0 0) (fun p_2 => bO (gI V [1] a0 1) (fun g_4 => bO (pF V [1] a0 1 (.int (g_4 + (1 : Int32)))) (fun V_6 => bO p_2 (fun n_8 => bO (tI V_6 (cA 3) n_8 g_4 (vp_nar .byte ((a1 >>> (x2 &&& (31 : Int32))).toInt8.toInt32))) (fun V_9 => ∀ v_11 : Int32, v_11 = x2 + (-8 : Int32) → vX1_put_l3 cA a0 a1 Post n v_11 V_9)))))))
def vX1_put (cA : Nat → ClassId) (a0 : Nat) (a1 : Int32) (V : VS) (Post : VS → Prop) : Prop := ∃ f, vX1_put_l3 cA a0 a1 Post f (24 : Int32) V
abbrev rX1_put : Room := { frames := 0, cells := 0, slots := 0, locals := 0 }
theorem cdX1_put : yX1_put.cls = RX1 ∧ yX1_put.cls ≠ "java/lang/invoke/MethodHandle" ∧ yX1_put.cls ≠ "java/lang/invoke/VarHandle" ∧ (parseMethodDescriptor yX1_put.desc).map (fun d => d.parameters.length) = some 1 := by decide +kernel
set_option maxHeartbeats 4000000 in
set_option maxRecDepth 100000 in
theorem mvX1_put (l : Launch) {D : va_G} {cA : Nat → ClassId} {A : Nat → Prop} (a0 : Nat) (a1 : Int32) (V : VS) (Post : VS → Prop) (h : vX1_put cA a0 a1 V Post) : Met l yX1_put (ws_ yX1_put cX1_put 3 none) rX1_put (vPc [.ref a0, .int a1] D cA A V) (va_Qv Post (vB D A) A) 0 0 A := by
  refine vstM (own := RX1) (by decide) rfl (Nat.le_of_ble_eq_true rfl) ?_
  intro p e s m args below meth c ls X hret hV hS hl
  obtain ⟨S, hK, hG, hA, hnm, hlocks⟩ := X
  have hx := S.1
  have hb := S.2.1
  have hl : lv_has ls 3 [(0, .ref a0), (1, .int a1)] := hl
  have L3 : ∀ (n : Nat) (x2 : Int32) (V : VS) (H : Heap) (locs : List Loc) (ls : Array Slot), HV D A V H → va_S A s.heap H locs → lv_has ls 3 [(0, .ref a0), (1, .int a1), (2, .int x2)] → vX1_put_l3 cA a0 a1 Post n x2 V → W p l e rX1_put s m args below meth c H locs 0 0 (MQ below (va_Qv Post (vB D A) A) args s 0 0 A) (F0 m 3 ls []) := by
    intro n
    induction n with
    | zero => intro x2 V H locs ls hV hS hl h; rw [vX1_put_l3] at h; exact h.elim
    | succ n ih =>
      intro x2 V H locs ls hV hS hl h
      rw [vX1_put_l3] at h
      refine lv_iload_n hx hb dX1_put_3 rfl (lv_at hl 2 rfl) ?_
      refine lv_if_lt (tgt := 33) hx hb dX1_put_4 (by decide) (fun c_1 => ?_) (fun c_1 => ?_)
      · replace h := h.1 c_1
        exact ve_v S hlocks hret hV hS h (Nat.le_refl _) (Nat.le_refl _) dX1_put_33
      · replace h := h.2 c_1
        refine lv_aload_n hx hb dX1_put_7 rfl (lv_at hl 0 rfl) ?_
        obtain ⟨p_2, e_3, h⟩ := bO_e h
        refine vg_r S hK hV fX1_17 e_3 dX1_put_8 ?_
        refine lv_aload_n hx hb dX1_put_11 rfl (lv_at hl 0 rfl) ?_
        refine lv_dup hx hb dX1_put_12 rfl ?_
        obtain ⟨g_4, e_5, h⟩ := bO_e h
        refine vg_i S hK hV fX1_73 e_5 dX1_put_13 ?_
        refine lv_dup_x1 hx hb dX1_put_16 rfl rfl ?_
        refine lv_iconst hx hb dX1_put_17 kc_1 ?_
        refine lv_iadd hx hb dX1_put_18 ?_
        obtain ⟨V_6, e_7, h⟩ := bO_e h
        refine vp_v (v := .int (g_4 + (1 : Int32))) S hK hV hS fX1_73 (Or.inl rfl) rfl rfl e_7 dX1_put_19 (fun H locs hV hS => ?_)
        refine lv_iload_n hx hb dX1_put_22 rfl (lv_at hl 1 rfl) ?_
        refine lv_iload_n hx hb dX1_put_23 rfl (lv_at hl 2 rfl) ?_
        refine lv_ishr hx hb dX1_put_24 ?_
        refine lv_i2b hx hb dX1_put_25 rfl ?_
        obtain ⟨n_8, z_n_8, h9⟩ := bO_e h
        clear h; subst z_n_8; have h := h9; clear h9
        obtain ⟨V_9, e_10, h⟩ := bO_e h
        refine vs_b S hK hV hS e_10 dX1_put_26 (fun H locs hV hS => ?_)
        obtain ⟨v_11, e_v_11⟩ : ∃ y : Int32, y = x2 + (-8 : Int32) := ⟨_, rfl⟩
        replace h := h v_11 e_v_11
        refine lv_iinc (v := v_11) (lv' := [(2, .int v_11), (0, .ref a0), (1, .int a1)]) hx hb dX1_put_27 hl (k := 2) rfl (by rw [kc_m8, e_v_11]) (by decide) rfl (fun ls hl => ?_)
        refine lv_goto (tgt := 3) hx hb dX1_put_30 (by decide) ?_
        exact ih _ _ _ _ _ hV hS (lv_sub hl [1, 2, 0] rfl) h
  unfold vX1_put at h
  refine lv_bipush hx hb dX1_put_0 kb_24 ?_
  refine lv_istore_n (lv' := [(2, .int (24 : Int32)), (0, .ref a0), (1, .int a1)]) hx hb dX1_put_2 rfl hl (by decide) rfl (fun ls hl => ?_)
  obtain ⟨f, h⟩ := h
  exact L3 f _ _ _ _ _ hV hS (lv_sub hl [1, 2, 0] rfl) h
def vX1_feed (cA : Nat → ClassId) (a0 : Nat) (a1 : Int32) (a2 : Int32) (a3 : Int32) (a4 : Int32) (a5 : Int32) (V : VS) (Post : Int32 → VS → Prop) : Prop := bO (gI V [1] a0 1) (fun g_1 => ((g_1 + (20 : Int32)) ≤ (800 : Int32) → (bO (vO V [1] a0) (fun o_6 => vX1_put cA a0 a1 V (fun V_5 => bO (vO V_5 [1] a0) (fun o_10 => vX1_put cA a0 a2 V_5 (fun V_9 => bO (vO V_9 [1] a0) (fun o_14 => vX1_put cA a0 a3 V_9 (fun V_13 => bO (vO V_13 [1] a0) (fun o_18 => vX1_put cA a0 a4 V_13 (fun V_17 => bO (vO V_17 [1] a0) (fun o_22 => vX1_put cA a0 a5 V_17 (fun V_21 => bO (gI V_21 [1] a0 1) (fun g_24 => Post g_24 V_21))))))))))))) ∧ (¬ ((g_1 + (20 : Int32)) ≤ (800 : Int32)) → (Post (-1 : Int32) V)))
abbrev rX1_feed : Room := { frames := 1, cells := 0, slots := 0, locals := 22 }
theorem cdX1_feed : yX1_feed.cls = RX1 ∧ yX1_feed.cls ≠ "java/lang/invoke/MethodHandle" ∧ yX1_feed.cls ≠ "java/lang/invoke/VarHandle" ∧ (parseMethodDescriptor yX1_feed.desc).map (fun d => d.parameters.length) = some 5 := by decide +kernel
set_option maxHeartbeats 4000000 in
set_option maxRecDepth 100000 in
theorem mvX1_feed (l : Launch) {D : va_G} {cA : Nat → ClassId} {A : Nat → Prop} (a0 : Nat) (a1 : Int32) (a2 : Int32) (a3 : Int32) (a4 : Int32) (a5 : Int32) (V : VS) (Post : Int32 → VS → Prop) (h : vX1_feed cA a0 a1 a2 a3 a4 a5 V Post) : Met l yX1_feed (ws_ yX1_feed cX1_feed 6 (some (.int))) rX1_feed (vPc [.ref a0, .int a1, .int a2, .int a3, .int a4, .int a5] D cA A V) (va_Qi Post (vB D A) A) 0 0 A := by
  refine vstM (own := RX1) (by decide) rfl (Nat.le_of_ble_eq_true rfl) ?_
  intro p e s m args below meth c ls X hret hV hS hl
  obtain ⟨S, hK, hG, hA, hnm, hlocks⟩ := X
  have hx := S.1
  have hb := S.2.1
  have hl : lv_has ls 6 [(0, .ref a0), (1, .int a1), (2, .int a2), (3, .int a3), (4, .int a4), (5, .int a5)] := hl
  unfold vX1_feed at h
  refine lv_aload_n hx hb dX1_feed_0 rfl (lv_at hl 0 rfl) ?_
  obtain ⟨g_1, e_2, h⟩ := bO_e h
  refine vg_i S hK hV fX1_73 e_2 dX1_feed_1 ?_
  refine lv_bipush hx hb dX1_feed_4 kb_20 ?_
  refine lv_iadd hx hb dX1_feed_6 ?_
  refine lv_sipush hx hb dX1_feed_7 ks_800 ?_
  refine lv_icmp_le (tgt := 15) hx hb dX1_feed_10 (by decide) (fun c_3 => ?_) (fun c_3 => ?_)
  · replace h := h.1 c_3
    refine lv_aload_n hx hb dX1_feed_15 rfl (lv_at hl 0 rfl) ?_
    refine lv_iload_n hx hb dX1_feed_16 rfl (lv_at hl 1 rfl) ?_
    obtain ⟨o_6, e_7, h⟩ := bO_e h
    refine vk_v (vr_V (As := [.int a1]) (rest := []) S hK hG hA hV hS e_7 rfl (mvX1_put l a0 a1 V _ h) (cwV 1 S.2.2.2.2 (lw_V q358 q360 qs0 q139 q361) rfl rfl rfl cdX1_put ⟨Nat.le_of_ble_eq_true rfl, Nat.le_of_ble_eq_true rfl⟩) rfl hl.1 (Nat.le_of_ble_eq_true rfl) dX1_feed_17 ⟨Nat.le_refl _, Nat.le_refl _⟩) hS (fun V_5 H locs h hV hS => ?_)
    refine lv_aload_n hx hb dX1_feed_20 rfl (lv_at hl 0 rfl) ?_
    refine lv_iload_n hx hb dX1_feed_21 rfl (lv_at hl 2 rfl) ?_
    obtain ⟨o_10, e_11, h⟩ := bO_e h
    refine vk_v (vr_V (As := [.int a2]) (rest := []) S hK hG hA hV hS e_11 rfl (mvX1_put l a0 a2 V_5 _ h) (cwV 1 S.2.2.2.2 (lw_V q358 q360 qs0 q139 q361) rfl rfl rfl cdX1_put ⟨Nat.le_of_ble_eq_true rfl, Nat.le_of_ble_eq_true rfl⟩) rfl hl.1 (Nat.le_of_ble_eq_true rfl) dX1_feed_22 ⟨Nat.le_refl _, Nat.le_refl _⟩) hS (fun V_9 H locs h hV hS => ?_)
    refine lv_aload_n hx hb dX1_feed_25 rfl (lv_at hl 0 rfl) ?_
    refine lv_iload_n hx hb dX1_feed_26 rfl (lv_at hl 3 rfl) ?_
    obtain ⟨o_14, e_15, h⟩ := bO_e h
    refine vk_v (vr_V (As := [.int a3]) (rest := []) S hK hG hA hV hS e_15 rfl (mvX1_put l a0 a3 V_9 _ h) (cwV 1 S.2.2.2.2 (lw_V q358 q360 qs0 q139 q361) rfl rfl rfl cdX1_put ⟨Nat.le_of_ble_eq_true rfl, Nat.le_of_ble_eq_true rfl⟩) rfl hl.1 (Nat.le_of_ble_eq_true rfl) dX1_feed_27 ⟨Nat.le_refl _, Nat.le_refl _⟩) hS (fun V_13 H locs h hV hS => ?_)
    refine lv_aload_n hx hb dX1_feed_30 rfl (lv_at hl 0 rfl) ?_
    refine lv_iload hx hb dX1_feed_31 (lv_at hl 4 rfl) ?_
    obtain ⟨o_18, e_19, h⟩ := bO_e h
    refine vk_v (vr_V (As := [.int a4]) (rest := []) S hK hG hA hV hS e_19 rfl (mvX1_put l a0 a4 V_13 _ h) (cwV 1 S.2.2.2.2 (lw_V q358 q360 qs0 q139 q361) rfl rfl rfl cdX1_put ⟨Nat.le_of_ble_eq_true rfl, Nat.le_of_ble_eq_true rfl⟩) rfl hl.1 (Nat.le_of_ble_eq_true rfl) dX1_feed_33 ⟨Nat.le_refl _, Nat.le_refl _⟩) hS (fun V_17 H locs h hV hS => ?_)
    refine lv_aload_n hx hb dX1_feed_36 rfl (lv_at hl 0 rfl) ?_
    refine lv_iload hx hb dX1_feed_37 (lv_at hl 5 rfl) ?_
    obtain ⟨o_22, e_23, h⟩ := bO_e h
    refine vk_v (vr_V (As := [.int a5]) (rest := []) S hK hG hA hV hS e_23 rfl (mvX1_put l a0 a5 V_17 _ h) (cwV 1 S.2.2.2.2 (lw_V q358 q360 qs0 q139 q361) rfl rfl rfl cdX1_put ⟨Nat.le_of_ble_eq_true rfl, Nat.le_of_ble_eq_true rfl⟩) rfl hl.1 (Nat.le_of_ble_eq_true rfl) dX1_feed_39 ⟨Nat.le_refl _, Nat.le_refl _⟩) hS (fun V_21 H locs h hV hS => ?_)
    refine lv_aload_n hx hb dX1_feed_42 rfl (lv_at hl 0 rfl) ?_
    obtain ⟨g_24, e_25, h⟩ := bO_e h
    refine vg_i S hK hV fX1_73 e_25 dX1_feed_43 ?_
    exact ve_i S hlocks hret hV hS h rfl (Nat.le_refl _) (Nat.le_refl _) dX1_feed_46
  · replace h := h.2 c_3
    refine lv_iconst hx hb dX1_feed_13 kc_m1 ?_
    exact ve_i S hlocks hret hV hS h rfl (Nat.le_refl _) (Nat.le_refl _) dX1_feed_14
def vX1_fault (cA : Nat → ClassId) (a0 : Nat) (a1 : Int32) (V : VS) (Post : Int32 → VS → Prop) : Prop := (a1 = 0 → (bO (gI V [1] a0 2) (fun g_5 => Post g_5 V))) ∧ (¬ (a1 = 0) → ((a1 = (1 : Int32) → (bO (gI V [1] a0 3) (fun g_3 => Post g_3 V))) ∧ (¬ (a1 = (1 : Int32)) → (Post (-1 : Int32) V))))
abbrev rX1_fault : Room := { frames := 0, cells := 0, slots := 0, locals := 0 }
theorem cdX1_fault : yX1_fault.cls = RX1 ∧ yX1_fault.cls ≠ "java/lang/invoke/MethodHandle" ∧ yX1_fault.cls ≠ "java/lang/invoke/VarHandle" ∧ (parseMethodDescriptor yX1_fault.desc).map (fun d => d.parameters.length) = some 1 := by decide +kernel
set_option maxHeartbeats 4000000 in
set_option maxRecDepth 100000 in
theorem mvX1_fault (l : Launch) {D : va_G} {cA : Nat → ClassId} {A : Nat → Prop} (a0 : Nat) (a1 : Int32) (V : VS) (Post : Int32 → VS → Prop) (h : vX1_fault cA a0 a1 V Post) : Met l yX1_fault (ws_ yX1_fault cX1_fault 2 (some (.int))) rX1_fault (vPc [.ref a0, .int a1] D cA A V) (va_Qi Post (vB D A) A) 0 0 A := by
  refine vstM (own := RX1) (by decide) rfl (Nat.le_of_ble_eq_true rfl) ?_
  intro p e s m args below meth c ls X hret hV hS hl
  obtain ⟨S, hK, hG, hA, hnm, hlocks⟩ := X
  have hx := S.1
  have hb := S.2.1
  have hl : lv_has ls 2 [(0, .ref a0), (1, .int a1)] := hl
  unfold vX1_fault at h
  refine lv_iload_n hx hb dX1_fault_0 rfl (lv_at hl 1 rfl) ?_
  refine lv_if_ne (tgt := 11) hx hb dX1_fault_1 (by decide) (fun c_1 => ?_) (fun c_1 => ?_)
  · replace h := h.2 c_1
    refine lv_iload_n hx hb dX1_fault_11 rfl (lv_at hl 1 rfl) ?_
    refine lv_iconst hx hb dX1_fault_12 kc_1 ?_
    refine lv_icmp_ne (tgt := 23) hx hb dX1_fault_13 (by decide) (fun c_2 => ?_) (fun c_2 => ?_)
    · replace h := h.2 c_2
      refine lv_iconst hx hb dX1_fault_23 kc_m1 ?_
      exact ve_i S hlocks hret hV hS h rfl (Nat.le_refl _) (Nat.le_refl _) dX1_fault_24
    · replace h := h.1 c_2
      refine lv_aload_n hx hb dX1_fault_16 rfl (lv_at hl 0 rfl) ?_
      obtain ⟨g_3, e_4, h⟩ := bO_e h
      refine vg_i S hK hV fX1_21 e_4 dX1_fault_17 ?_
      refine lv_goto (tgt := 24) hx hb dX1_fault_20 (by decide) ?_
      exact ve_i S hlocks hret hV hS h rfl (Nat.le_refl _) (Nat.le_refl _) dX1_fault_24
  · replace h := h.1 c_1
    refine lv_aload_n hx hb dX1_fault_4 rfl (lv_at hl 0 rfl) ?_
    obtain ⟨g_5, e_6, h⟩ := bO_e h
    refine vg_i S hK hV fX1_84 e_6 dX1_fault_5 ?_
    refine lv_goto (tgt := 24) hx hb dX1_fault_8 (by decide) ?_
    exact ve_i S hlocks hret hV hS h rfl (Nat.le_refl _) (Nat.le_refl _) dX1_fault_24
def vX3_thing_l2 (cA : Nat → ClassId) (a0 : Nat) (a1 : Int32) (Post : Int32 → VS → Prop) : Nat → Int32 → VS → Prop
  | 0, _, _ => False
  | n + 1, x2, V => bO (gR V [3] a0 0) (fun p_1 => bO p_1 (fun n_3 => bO (vO V [14] n_3) (fun o_6 => vJ2_size cA n_3 V (fun r_4 V_5 => (r_4 ≤ x2 → (Post (-1 : Int32) V_5)) ∧ (¬ (r_4 ≤ x2) → (bO (gR V_5 [3] a0 0) (fun p_9 => bO p_9 (fun n_11 => bO (vO V_5 [14] n_11) (fun o_14 => vJ2_get cA n_11 x2 V_5 (fun p_12 V_13 => bO p_12 (fun n_16 => bO (vO V_13 [5] n_16) (fun o_17 => bO (gI V_13 [5] n_16 0) (fun g_19 => (g_19 = a1 → (Post x2 V_13)) ∧ (¬ (g_19 = a1) → (∀ v_22 : Int32, v_22 = x2 + (1 : Int32) → vX3_thing_l2 cA a0 a1 Post n v_22 V_13)))))))))))))))
def vX3_thing (cA : Nat → ClassId) (a0 : Nat) (a1 : Int32) (V : VS) (Post : Int32 → VS → Prop) : Prop := ∃ f, vX3_thing_l2 cA a0 a1 Post f (0 : Int32) V
abbrev rX3_thing : Room := { frames := 3, cells := 0, slots := 0, locals := 64 }
theorem cdX3_thing : yX3_thing.cls = RX3 ∧ yX3_thing.cls ≠ "java/lang/invoke/MethodHandle" ∧ yX3_thing.cls ≠ "java/lang/invoke/VarHandle" ∧ (parseMethodDescriptor yX3_thing.desc).map (fun d => d.parameters.length) = some 1 := by decide +kernel
set_option maxHeartbeats 4000000 in
set_option maxRecDepth 100000 in
theorem mvX3_thing (l : Launch) {D : va_G} {cA : Nat → ClassId} {A : Nat → Prop} (a0 : Nat) (a1 : Int32) (V : VS) (Post : Int32 → VS → Prop) (h : vX3_thing cA a0 a1 V Post) : Met l yX3_thing (ws_ yX3_thing cX3_thing 3 (some (.int))) rX3_thing (vPc [.ref a0, .int a1] D cA A V) (va_Qi Post (vB D A) A) 0 0 A := by
  refine vstM (own := RX3) (by decide) rfl (Nat.le_of_ble_eq_true rfl) ?_
  intro p e s m args below meth c ls X hret hV hS hl
  obtain ⟨S, hK, hG, hA, hnm, hlocks⟩ := X
  have hx := S.1
  have hb := S.2.1
  have hl : lv_has ls 3 [(0, .ref a0), (1, .int a1)] := hl
  have L2 : ∀ (n : Nat) (x2 : Int32) (V : VS) (H : Heap) (locs : List Loc) (ls : Array Slot), HV D A V H → va_S A s.heap H locs → lv_has ls 3 [(0, .ref a0), (1, .int a1), (2, .int x2)] → vX3_thing_l2 cA a0 a1 Post n x2 V → W p l e rX3_thing s m args below meth c H locs 0 0 (MQ below (va_Qi Post (vB D A) A) args s 0 0 A) (F0 m 2 ls []) := by
    intro n
    induction n with
    | zero => intro x2 V H locs ls hV hS hl h; rw [vX3_thing_l2] at h; exact h.elim
    | succ n ih =>
      intro x2 V H locs ls hV hS hl h
      rw [vX3_thing_l2] at h
      refine lv_iload_n hx hb dX3_thing_2 rfl (lv_at hl 2 rfl) ?_
      refine lv_aload_n hx hb dX3_thing_3 rfl (lv_at hl 0 rfl) ?_
      obtain ⟨p_1, e_2, h⟩ := bO_e h
      refine vg_r S hK hV fX3_14 e_2 dX3_thing_4 ?_
      obtain ⟨n_3, z_n_3, h9⟩ := bO_e h
      clear h; subst z_n_3; have h := h9; clear h9
      obtain ⟨o_6, e_7, h⟩ := bO_e h
      refine vk_i (vr_V (As := []) (rest := [.int x2]) S hK hG hA hV hS e_7 rfl (mvJ2_size l n_3 V _ h) (cwV 0 S.2.2.2.2 (lw_V q606 q591 q592 q144 q593) rfl rfl rfl cdJ2_size ⟨Nat.le_of_ble_eq_true rfl, Nat.le_of_ble_eq_true rfl⟩) rfl hl.1 (Nat.le_of_ble_eq_true rfl) dX3_thing_7 ⟨Nat.le_refl _, Nat.le_refl _⟩) hS (fun r_4 V_5 H locs h hV hS => ?_)
      refine lv_icmp_ge (tgt := 39) hx hb dX3_thing_10 (by decide) (fun c_8 => ?_) (fun c_8 => ?_)
      · replace h := h.1 c_8
        refine lv_iconst hx hb dX3_thing_39 kc_m1 ?_
        exact ve_i S hlocks hret hV hS h rfl (Nat.le_refl _) (Nat.le_refl _) dX3_thing_40
      · replace h := h.2 c_8
        refine lv_aload_n hx hb dX3_thing_13 rfl (lv_at hl 0 rfl) ?_
        obtain ⟨p_9, e_10, h⟩ := bO_e h
        refine vg_r S hK hV fX3_14 e_10 dX3_thing_14 ?_
        refine lv_iload_n hx hb dX3_thing_17 rfl (lv_at hl 2 rfl) ?_
        obtain ⟨n_11, z_n_11, h9⟩ := bO_e h
        clear h; subst z_n_11; have h := h9; clear h9
        obtain ⟨o_14, e_15, h⟩ := bO_e h
        refine vk_q (vr_V (As := [.int x2]) (rest := []) S hK hG hA hV hS e_15 rfl (mvJ2_get l n_11 x2 V_5 _ h) (cwV 1 S.2.2.2.2 (lw_V q607 q608 q609 q144 q610) rfl rfl rfl cdJ2_get ⟨Nat.le_of_ble_eq_true rfl, Nat.le_of_ble_eq_true rfl⟩) rfl hl.1 (Nat.le_of_ble_eq_true rfl) dX3_thing_18 ⟨Nat.le_refl _, Nat.le_refl _⟩) hS (fun p_12 V_13 H locs h hV hS => ?_)
        obtain ⟨n_16, z_n_16, h9⟩ := bO_e h
        clear h; subst z_n_16; have h := h9; clear h9
        obtain ⟨o_17, e_18, h⟩ := bO_e h
        refine v_cast S hK hV e_18 ct_SaidSo_Thing q619 dX3_thing_21 ?_
        obtain ⟨g_19, e_20, h⟩ := bO_e h
        refine vg_i S hK hV fX3_45 e_20 dX3_thing_24 ?_
        refine lv_iload_n hx hb dX3_thing_27 rfl (lv_at hl 1 rfl) ?_
        refine lv_icmp_ne (tgt := 33) hx hb dX3_thing_28 (by decide) (fun c_21 => ?_) (fun c_21 => ?_)
        · replace h := h.2 c_21
          obtain ⟨v_22, e_v_22⟩ : ∃ y : Int32, y = x2 + (1 : Int32) := ⟨_, rfl⟩
          replace h := h v_22 e_v_22
          refine lv_iinc (v := v_22) (lv' := [(2, .int v_22), (0, .ref a0), (1, .int a1)]) hx hb dX3_thing_33 hl (k := 2) rfl (by rw [kc_1, e_v_22]) (by decide) rfl (fun ls hl => ?_)
          refine lv_goto (tgt := 2) hx hb dX3_thing_36 (by decide) ?_
          exact ih _ _ _ _ _ hV hS (lv_sub hl [1, 2, 0] rfl) h
        · replace h := h.1 c_21
          refine lv_iload_n hx hb dX3_thing_31 rfl (lv_at hl 2 rfl) ?_
          exact ve_i S hlocks hret hV hS h rfl (Nat.le_refl _) (Nat.le_refl _) dX3_thing_32
  unfold vX3_thing at h
  refine lv_iconst hx hb dX3_thing_0 kc_0 ?_
  refine lv_istore_n (lv' := [(2, .int (0 : Int32)), (0, .ref a0), (1, .int a1)]) hx hb dX3_thing_1 rfl hl (by decide) rfl (fun ls hl => ?_)
  obtain ⟨f, h⟩ := h
  exact L2 f _ _ _ _ _ hV hS (lv_sub hl [1, 2, 0] rfl) h
def vX3_teller_l2 (cA : Nat → ClassId) (a0 : Nat) (a1 : Int32) (Post : Int32 → VS → Prop) : Nat → Int32 → VS → Prop
  | 0, _, _ => False
  | n + 1, x2, V => bO (gR V [3] a0 1) (fun p_1 => bO p_1 (fun n_3 => bO (vO V [14] n_3) (fun o_6 => vJ2_size cA n_3 V (fun r_4 V_5 => (r_4 ≤ x2 → (Post (-1 : Int32) V_5)) ∧ (¬ (r_4 ≤ x2) → (bO (gR V_5 [3] a0 1) (fun p_9 => bO p_9 (fun n_11 => bO (vO V_5 [14] n_11) (fun o_14 => vJ2_get cA n_11 x2 V_5 (fun p_12 V_13 => bO p_12 (fun n_16 => bO (vO V_13 [6] n_16) (fun o_17 => bO (gI V_13 [6] n_16 0) (fun g_19 => (g_19 = a1 → (Post x2 V_13)) ∧ (¬ (g_19 = a1) → (∀ v_22 : Int32, v_22 = x2 + (1 : Int32) → vX3_teller_l2 cA a0 a1 Post n v_22 V_13)))))))))))))))
def vX3_teller (cA : Nat → ClassId) (a0 : Nat) (a1 : Int32) (V : VS) (Post : Int32 → VS → Prop) : Prop := ∃ f, vX3_teller_l2 cA a0 a1 Post f (0 : Int32) V
abbrev rX3_teller : Room := { frames := 3, cells := 0, slots := 0, locals := 64 }
theorem cdX3_teller : yX3_teller.cls = RX3 ∧ yX3_teller.cls ≠ "java/lang/invoke/MethodHandle" ∧ yX3_teller.cls ≠ "java/lang/invoke/VarHandle" ∧ (parseMethodDescriptor yX3_teller.desc).map (fun d => d.parameters.length) = some 1 := by decide +kernel
set_option maxHeartbeats 4000000 in
set_option maxRecDepth 100000 in
theorem mvX3_teller (l : Launch) {D : va_G} {cA : Nat → ClassId} {A : Nat → Prop} (a0 : Nat) (a1 : Int32) (V : VS) (Post : Int32 → VS → Prop) (h : vX3_teller cA a0 a1 V Post) : Met l yX3_teller (ws_ yX3_teller cX3_teller 3 (some (.int))) rX3_teller (vPc [.ref a0, .int a1] D cA A V) (va_Qi Post (vB D A) A) 0 0 A := by
  refine vstM (own := RX3) (by decide) rfl (Nat.le_of_ble_eq_true rfl) ?_
  intro p e s m args below meth c ls X hret hV hS hl
  obtain ⟨S, hK, hG, hA, hnm, hlocks⟩ := X
  have hx := S.1
  have hb := S.2.1
  have hl : lv_has ls 3 [(0, .ref a0), (1, .int a1)] := hl
  have L2 : ∀ (n : Nat) (x2 : Int32) (V : VS) (H : Heap) (locs : List Loc) (ls : Array Slot), HV D A V H → va_S A s.heap H locs → lv_has ls 3 [(0, .ref a0), (1, .int a1), (2, .int x2)] → vX3_teller_l2 cA a0 a1 Post n x2 V → W p l e rX3_teller s m args below meth c H locs 0 0 (MQ below (va_Qi Post (vB D A) A) args s 0 0 A) (F0 m 2 ls []) := by
    intro n
    induction n with
    | zero => intro x2 V H locs ls hV hS hl h; rw [vX3_teller_l2] at h; exact h.elim
    | succ n ih =>
      intro x2 V H locs ls hV hS hl h
      rw [vX3_teller_l2] at h
      refine lv_iload_n hx hb dX3_teller_2 rfl (lv_at hl 2 rfl) ?_
      refine lv_aload_n hx hb dX3_teller_3 rfl (lv_at hl 0 rfl) ?_
      obtain ⟨p_1, e_2, h⟩ := bO_e h
      refine vg_r S hK hV fX3_20 e_2 dX3_teller_4 ?_
      obtain ⟨n_3, z_n_3, h9⟩ := bO_e h
      clear h; subst z_n_3; have h := h9; clear h9
      obtain ⟨o_6, e_7, h⟩ := bO_e h
      refine vk_i (vr_V (As := []) (rest := [.int x2]) S hK hG hA hV hS e_7 rfl (mvJ2_size l n_3 V _ h) (cwV 0 S.2.2.2.2 (lw_V q606 q591 q592 q144 q593) rfl rfl rfl cdJ2_size ⟨Nat.le_of_ble_eq_true rfl, Nat.le_of_ble_eq_true rfl⟩) rfl hl.1 (Nat.le_of_ble_eq_true rfl) dX3_teller_7 ⟨Nat.le_refl _, Nat.le_refl _⟩) hS (fun r_4 V_5 H locs h hV hS => ?_)
      refine lv_icmp_ge (tgt := 39) hx hb dX3_teller_10 (by decide) (fun c_8 => ?_) (fun c_8 => ?_)
      · replace h := h.1 c_8
        refine lv_iconst hx hb dX3_teller_39 kc_m1 ?_
        exact ve_i S hlocks hret hV hS h rfl (Nat.le_refl _) (Nat.le_refl _) dX3_teller_40
      · replace h := h.2 c_8
        refine lv_aload_n hx hb dX3_teller_13 rfl (lv_at hl 0 rfl) ?_
        obtain ⟨p_9, e_10, h⟩ := bO_e h
        refine vg_r S hK hV fX3_20 e_10 dX3_teller_14 ?_
        refine lv_iload_n hx hb dX3_teller_17 rfl (lv_at hl 2 rfl) ?_
        obtain ⟨n_11, z_n_11, h9⟩ := bO_e h
        clear h; subst z_n_11; have h := h9; clear h9
        obtain ⟨o_14, e_15, h⟩ := bO_e h
        refine vk_q (vr_V (As := [.int x2]) (rest := []) S hK hG hA hV hS e_15 rfl (mvJ2_get l n_11 x2 V_5 _ h) (cwV 1 S.2.2.2.2 (lw_V q607 q608 q609 q144 q610) rfl rfl rfl cdJ2_get ⟨Nat.le_of_ble_eq_true rfl, Nat.le_of_ble_eq_true rfl⟩) rfl hl.1 (Nat.le_of_ble_eq_true rfl) dX3_teller_18 ⟨Nat.le_refl _, Nat.le_refl _⟩) hS (fun p_12 V_13 H locs h hV hS => ?_)
        obtain ⟨n_16, z_n_16, h9⟩ := bO_e h
        clear h; subst z_n_16; have h := h9; clear h9
        obtain ⟨o_17, e_18, h⟩ := bO_e h
        refine v_cast S hK hV e_18 ct_SaidSo_Teller q624 dX3_teller_21 ?_
        obtain ⟨g_19, e_20, h⟩ := bO_e h
        refine vg_i S hK hV fX3_51 e_20 dX3_teller_24 ?_
        refine lv_iload_n hx hb dX3_teller_27 rfl (lv_at hl 1 rfl) ?_
        refine lv_icmp_ne (tgt := 33) hx hb dX3_teller_28 (by decide) (fun c_21 => ?_) (fun c_21 => ?_)
        · replace h := h.2 c_21
          obtain ⟨v_22, e_v_22⟩ : ∃ y : Int32, y = x2 + (1 : Int32) := ⟨_, rfl⟩
          replace h := h v_22 e_v_22
          refine lv_iinc (v := v_22) (lv' := [(2, .int v_22), (0, .ref a0), (1, .int a1)]) hx hb dX3_teller_33 hl (k := 2) rfl (by rw [kc_1, e_v_22]) (by decide) rfl (fun ls hl => ?_)
          refine lv_goto (tgt := 2) hx hb dX3_teller_36 (by decide) ?_
          exact ih _ _ _ _ _ hV hS (lv_sub hl [1, 2, 0] rfl) h
        · replace h := h.1 c_21
          refine lv_iload_n hx hb dX3_teller_31 rfl (lv_at hl 2 rfl) ?_
          exact ve_i S hlocks hret hV hS h rfl (Nat.le_refl _) (Nat.le_refl _) dX3_teller_32
  unfold vX3_teller at h
  refine lv_iconst hx hb dX3_teller_0 kc_0 ?_
  refine lv_istore_n (lv' := [(2, .int (0 : Int32)), (0, .ref a0), (1, .int a1)]) hx hb dX3_teller_1 rfl hl (by decide) rfl (fun ls hl => ?_)
  obtain ⟨f, h⟩ := h
  exact L2 f _ _ _ _ _ hV hS (lv_sub hl [1, 2, 0] rfl) h
def vX1_named (cA : Nat → ClassId) (a0 : Nat) (a1 : Int32) (a2 : Int32) (V : VS) (Post : Int32 → VS → Prop) : Prop := (a1 = 0 → (bO (gR V [1] a0 11) (fun p_10 => bO p_10 (fun n_12 => bO (vO V [3] n_12) (fun o_15 => vX3_thing cA n_12 a2 V (fun r_13 V_14 => Post r_13 V_14)))))) ∧ (¬ (a1 = 0) → ((a1 = (1 : Int32) → (bO (gR V [1] a0 11) (fun p_3 => bO p_3 (fun n_5 => bO (vO V [3] n_5) (fun o_8 => vX3_teller cA n_5 a2 V (fun r_6 V_7 => Post r_6 V_7)))))) ∧ (¬ (a1 = (1 : Int32)) → (Post (-1 : Int32) V))))
abbrev rX1_named : Room := { frames := 4, cells := 0, slots := 0, locals := 86 }
theorem cdX1_named : yX1_named.cls = RX1 ∧ yX1_named.cls ≠ "java/lang/invoke/MethodHandle" ∧ yX1_named.cls ≠ "java/lang/invoke/VarHandle" ∧ (parseMethodDescriptor yX1_named.desc).map (fun d => d.parameters.length) = some 2 := by decide +kernel
set_option maxHeartbeats 4000000 in
set_option maxRecDepth 100000 in
theorem mvX1_named (l : Launch) {D : va_G} {cA : Nat → ClassId} {A : Nat → Prop} (a0 : Nat) (a1 : Int32) (a2 : Int32) (V : VS) (Post : Int32 → VS → Prop) (h : vX1_named cA a0 a1 a2 V Post) : Met l yX1_named (ws_ yX1_named cX1_named 3 (some (.int))) rX1_named (vPc [.ref a0, .int a1, .int a2] D cA A V) (va_Qi Post (vB D A) A) 0 0 A := by
  refine vstM (own := RX1) (by decide) rfl (Nat.le_of_ble_eq_true rfl) ?_
  intro p e s m args below meth c ls X hret hV hS hl
  obtain ⟨S, hK, hG, hA, hnm, hlocks⟩ := X
  have hx := S.1
  have hb := S.2.1
  have hl : lv_has ls 3 [(0, .ref a0), (1, .int a1), (2, .int a2)] := hl
  unfold vX1_named at h
  refine lv_iload_n hx hb dX1_named_0 rfl (lv_at hl 1 rfl) ?_
  refine lv_if_ne (tgt := 15) hx hb dX1_named_1 (by decide) (fun c_1 => ?_) (fun c_1 => ?_)
  · replace h := h.2 c_1
    refine lv_iload_n hx hb dX1_named_15 rfl (lv_at hl 1 rfl) ?_
    refine lv_iconst hx hb dX1_named_16 kc_1 ?_
    refine lv_icmp_ne (tgt := 31) hx hb dX1_named_17 (by decide) (fun c_2 => ?_) (fun c_2 => ?_)
    · replace h := h.2 c_2
      refine lv_iconst hx hb dX1_named_31 kc_m1 ?_
      exact ve_i S hlocks hret hV hS h rfl (Nat.le_refl _) (Nat.le_refl _) dX1_named_32
    · replace h := h.1 c_2
      refine lv_aload_n hx hb dX1_named_20 rfl (lv_at hl 0 rfl) ?_
      obtain ⟨p_3, e_4, h⟩ := bO_e h
      refine vg_r S hK hV fX1_49 e_4 dX1_named_21 ?_
      refine lv_iload_n hx hb dX1_named_24 rfl (lv_at hl 2 rfl) ?_
      obtain ⟨n_5, z_n_5, h9⟩ := bO_e h
      clear h; subst z_n_5; have h := h9; clear h9
      obtain ⟨o_8, e_9, h⟩ := bO_e h
      refine vk_i (vr_V (As := [.int a2]) (rest := []) S hK hG hA hV hS e_9 rfl (mvX3_teller l n_5 a2 V _ h) (cwV 1 S.2.2.2.2 (lw_V q963 q621 q622 q141 q623) rfl rfl rfl cdX3_teller ⟨Nat.le_of_ble_eq_true rfl, Nat.le_of_ble_eq_true rfl⟩) rfl hl.1 (Nat.le_of_ble_eq_true rfl) dX1_named_25 ⟨Nat.le_refl _, Nat.le_refl _⟩) hS (fun r_6 V_7 H locs h hV hS => ?_)
      refine lv_goto (tgt := 32) hx hb dX1_named_28 (by decide) ?_
      exact ve_i S hlocks hret hV hS h rfl (Nat.le_refl _) (Nat.le_refl _) dX1_named_32
  · replace h := h.1 c_1
    refine lv_aload_n hx hb dX1_named_4 rfl (lv_at hl 0 rfl) ?_
    obtain ⟨p_10, e_11, h⟩ := bO_e h
    refine vg_r S hK hV fX1_49 e_11 dX1_named_5 ?_
    refine lv_iload_n hx hb dX1_named_8 rfl (lv_at hl 2 rfl) ?_
    obtain ⟨n_12, z_n_12, h9⟩ := bO_e h
    clear h; subst z_n_12; have h := h9; clear h9
    obtain ⟨o_15, e_16, h⟩ := bO_e h
    refine vk_i (vr_V (As := [.int a2]) (rest := []) S hK hG hA hV hS e_16 rfl (mvX3_thing l n_12 a2 V _ h) (cwV 1 S.2.2.2.2 (lw_V q962 q603 q604 q141 q605) rfl rfl rfl cdX3_thing ⟨Nat.le_of_ble_eq_true rfl, Nat.le_of_ble_eq_true rfl⟩) rfl hl.1 (Nat.le_of_ble_eq_true rfl) dX1_named_9 ⟨Nat.le_refl _, Nat.le_refl _⟩) hS (fun r_13 V_14 H locs h hV hS => ?_)
    refine lv_goto (tgt := 32) hx hb dX1_named_12 (by decide) ?_
    exact ve_i S hlocks hret hV hS h rfl (Nat.le_refl _) (Nat.le_refl _) dX1_named_32
def vX1_isTeller (cA : Nat → ClassId) (a0 : Nat) (a1 : Int32) (V : VS) (Post : Int32 → VS → Prop) : Prop := bO (gR V [1] a0 11) (fun p_1 => bO p_1 (fun n_3 => bO (gR V [3] n_3 1) (fun p_4 => bO p_4 (fun n_6 => bO (vO V [14] n_6) (fun o_9 => vJ2_size cA n_6 V (fun r_7 V_8 => w1_in a1 (0 : Int32) (r_7 - (1 : Int32)) (fun r_11 => vz r_11 ∧ Post r_11 V_8)))))))
abbrev rX1_isTeller : Room := { frames := 1, cells := 0, slots := 0, locals := 22 }
theorem cdX1_isTeller : yX1_isTeller.cls = RX1 ∧ yX1_isTeller.cls ≠ "java/lang/invoke/MethodHandle" ∧ yX1_isTeller.cls ≠ "java/lang/invoke/VarHandle" ∧ (parseMethodDescriptor yX1_isTeller.desc).map (fun d => d.parameters.length) = some 1 := by decide +kernel
set_option maxHeartbeats 4000000 in
set_option maxRecDepth 100000 in
theorem mvX1_isTeller (l : Launch) {D : va_G} {cA : Nat → ClassId} {A : Nat → Prop} (a0 : Nat) (a1 : Int32) (V : VS) (Post : Int32 → VS → Prop) (h : vX1_isTeller cA a0 a1 V Post) : Met l yX1_isTeller (ws_ yX1_isTeller cX1_isTeller 2 (some (.boolean))) rX1_isTeller (vPc [.ref a0, .int a1] D cA A V) (va_Qi Post (vB D A) A) 0 0 A := by
  refine vstM (own := RX1) (by decide) rfl (Nat.le_of_ble_eq_true rfl) ?_
  intro p e s m args below meth c ls X hret hV hS hl
  obtain ⟨S, hK, hG, hA, hnm, hlocks⟩ := X
  have hx := S.1
  have hb := S.2.1
  have hl : lv_has ls 2 [(0, .ref a0), (1, .int a1)] := hl
  unfold vX1_isTeller at h
  refine lv_iload_n hx hb dX1_isTeller_0 rfl (lv_at hl 1 rfl) ?_
  refine lv_iconst hx hb dX1_isTeller_1 kc_0 ?_
  refine lv_aload_n hx hb dX1_isTeller_2 rfl (lv_at hl 0 rfl) ?_
  obtain ⟨p_1, e_2, h⟩ := bO_e h
  refine vg_r S hK hV fX1_49 e_2 dX1_isTeller_3 ?_
  obtain ⟨n_3, z_n_3, h9⟩ := bO_e h
  clear h; subst z_n_3; have h := h9; clear h9
  obtain ⟨p_4, e_5, h⟩ := bO_e h
  refine vg_r S hK hV fX1_115 e_5 dX1_isTeller_6 ?_
  obtain ⟨n_6, z_n_6, h9⟩ := bO_e h
  clear h; subst z_n_6; have h := h9; clear h9
  obtain ⟨o_9, e_10, h⟩ := bO_e h
  refine vk_i (vr_V (As := []) (rest := [.int (0 : Int32), .int a1]) S hK hG hA hV hS e_10 rfl (mvJ2_size l n_6 V _ h) (cwV 0 S.2.2.2.2 (lw_V q972 q591 q592 q144 q593) rfl rfl rfl cdJ2_size ⟨Nat.le_of_ble_eq_true rfl, Nat.le_of_ble_eq_true rfl⟩) rfl hl.1 (Nat.le_of_ble_eq_true rfl) dX1_isTeller_9 ⟨Nat.le_refl _, Nat.le_refl _⟩) hS (fun r_7 V_8 H locs h hV hS => ?_)
  refine lv_iconst hx hb dX1_isTeller_12 kc_1 ?_
  refine lv_isub hx hb dX1_isTeller_13 ?_
  refine sc_i S (As := [.int a1, .int (0 : Int32), .int (r_7 - (1 : Int32))]) (rest := []) (mt1_in l a1 (0 : Int32) (r_7 - (1 : Int32)) _ h) (va_cwS 3 S.2.2.2.2 (lw_S q367 q368 q139 q369) rfl rfl rfl cdX1_in ⟨Nat.le_of_ble_eq_true rfl, Nat.le_of_ble_eq_true rfl⟩) rfl rfl hl.1 (Nat.le_of_ble_eq_true rfl) dX1_isTeller_14 ⟨Nat.le_refl _, Nat.le_refl _⟩ (fun r_11 h => ?_)
  exact ve_i S hlocks hret hV hS h.2 (vz_nar h.1) (Nat.le_refl _) (Nat.le_refl _) dX1_isTeller_17
def vX1_teller (cA : Nat → ClassId) (a0 : Nat) (a1 : Int32) (a2 : Int32) (V : VS) (Post : Int32 → VS → Prop) : Prop := bO (vO V [1] a0) (fun o_3 => vX1_isTeller cA a0 a1 V (fun r_1 V_2 => (r_1 = 0 → (Post (-1 : Int32) V_2)) ∧ (¬ (r_1 = 0) → (w1_in a2 (0 : Int32) (3 : Int32) (fun r_6 => (r_6 = 0 → (Post (-1 : Int32) V_2)) ∧ (¬ (r_6 = 0) → (bO (gR V_2 [1] a0 11) (fun p_8 => bO p_8 (fun n_10 => bO (gR V_2 [3] n_10 1) (fun p_11 => bO p_11 (fun n_13 => bO (vO V_2 [14] n_13) (fun o_16 => vJ2_get cA n_13 a1 V_2 (fun p_14 V_15 => bO p_14 (fun n_18 => bO (vO V_15 [6] n_18) (fun o_19 => (a2 = 0 → (bO (gI V_15 [6] n_18 1) (fun g_30 => Post g_30 V_15))) ∧ (¬ (a2 = 0) → ((a2 = (1 : Int32) → (bO (gI V_15 [6] n_18 2) (fun g_28 => Post g_28 V_15))) ∧ (¬ (a2 = (1 : Int32)) → ((a2 = (2 : Int32) → (bO (gI V_15 [6] n_18 3) (fun g_26 => Post g_26 V_15))) ∧ (¬ (a2 = (2 : Int32)) → (bO (gI V_15 [6] n_18 4) (fun g_24 => Post g_24 V_15))))))))))))))))))))))
abbrev rX1_teller : Room := { frames := 3, cells := 0, slots := 0, locals := 64 }
theorem cdX1_teller : yX1_teller.cls = RX1 ∧ yX1_teller.cls ≠ "java/lang/invoke/MethodHandle" ∧ yX1_teller.cls ≠ "java/lang/invoke/VarHandle" ∧ (parseMethodDescriptor yX1_teller.desc).map (fun d => d.parameters.length) = some 2 := by decide +kernel
set_option maxHeartbeats 4000000 in
set_option maxRecDepth 100000 in
theorem mvX1_teller (l : Launch) {D : va_G} {cA : Nat → ClassId} {A : Nat → Prop} (a0 : Nat) (a1 : Int32) (a2 : Int32) (V : VS) (Post : Int32 → VS → Prop) (h : vX1_teller cA a0 a1 a2 V Post) : Met l yX1_teller (ws_ yX1_teller cX1_teller 4 (some (.int))) rX1_teller (vPc [.ref a0, .int a1, .int a2] D cA A V) (va_Qi Post (vB D A) A) 0 0 A := by
  refine vstM (own := RX1) (by decide) rfl (Nat.le_of_ble_eq_true rfl) ?_
  intro p e s m args below meth c ls X hret hV hS hl
  obtain ⟨S, hK, hG, hA, hnm, hlocks⟩ := X
  have hx := S.1
  have hb := S.2.1
  have hl : lv_has ls 4 [(0, .ref a0), (1, .int a1), (2, .int a2)] := hl
  unfold vX1_teller at h
  refine lv_aload_n hx hb dX1_teller_0 rfl (lv_at hl 0 rfl) ?_
  refine lv_iload_n hx hb dX1_teller_1 rfl (lv_at hl 1 rfl) ?_
  obtain ⟨o_3, e_4, h⟩ := bO_e h
  refine vk_i (vr_V (As := [.int a1]) (rest := []) S hK hG hA hV hS e_4 rfl (mvX1_isTeller l a0 a1 V _ h) (cwV 1 S.2.2.2.2 (lw_V q968 q970 qs31 q139 q971) rfl rfl rfl cdX1_isTeller ⟨Nat.le_of_ble_eq_true rfl, Nat.le_of_ble_eq_true rfl⟩) rfl hl.1 (Nat.le_of_ble_eq_true rfl) dX1_teller_2 ⟨Nat.le_refl _, Nat.le_refl _⟩) hS (fun r_1 V_2 H locs h hV hS => ?_)
  refine lv_if_eq (tgt := 17) hx hb dX1_teller_5 (by decide) (fun c_5 => ?_) (fun c_5 => ?_)
  · replace h := h.1 c_5
    refine lv_iconst hx hb dX1_teller_17 kc_m1 ?_
    exact ve_i S hlocks hret hV hS h rfl (Nat.le_refl _) (Nat.le_refl _) dX1_teller_18
  · replace h := h.2 c_5
    refine lv_iload_n hx hb dX1_teller_8 rfl (lv_at hl 2 rfl) ?_
    refine lv_iconst hx hb dX1_teller_9 kc_0 ?_
    refine lv_iconst hx hb dX1_teller_10 kc_3 ?_
    refine sc_i S (As := [.int a2, .int (0 : Int32), .int (3 : Int32)]) (rest := []) (mt1_in l a2 (0 : Int32) (3 : Int32) _ h) (va_cwS 3 S.2.2.2.2 (lw_S q367 q368 q139 q369) rfl rfl rfl cdX1_in ⟨Nat.le_of_ble_eq_true rfl, Nat.le_of_ble_eq_true rfl⟩) rfl rfl hl.1 (Nat.le_of_ble_eq_true rfl) dX1_teller_11 ⟨Nat.le_refl _, Nat.le_refl _⟩ (fun r_6 h => ?_)
    refine lv_if_ne (tgt := 19) hx hb dX1_teller_14 (by decide) (fun c_7 => ?_) (fun c_7 => ?_)
    · replace h := h.2 c_7
      refine lv_aload_n hx hb dX1_teller_19 rfl (lv_at hl 0 rfl) ?_
      obtain ⟨p_8, e_9, h⟩ := bO_e h
      refine vg_r S hK hV fX1_49 e_9 dX1_teller_20 ?_
      obtain ⟨n_10, z_n_10, h9⟩ := bO_e h
      clear h; subst z_n_10; have h := h9; clear h9
      obtain ⟨p_11, e_12, h⟩ := bO_e h
      refine vg_r S hK hV fX1_115 e_12 dX1_teller_23 ?_
      refine lv_iload_n hx hb dX1_teller_26 rfl (lv_at hl 1 rfl) ?_
      obtain ⟨n_13, z_n_13, h9⟩ := bO_e h
      clear h; subst z_n_13; have h := h9; clear h9
      obtain ⟨o_16, e_17, h⟩ := bO_e h
      refine vk_q (vr_V (As := [.int a1]) (rest := []) S hK hG hA hV hS e_17 rfl (mvJ2_get l n_13 a1 V_2 _ h) (cwV 1 S.2.2.2.2 (lw_V q973 q608 q609 q144 q610) rfl rfl rfl cdJ2_get ⟨Nat.le_of_ble_eq_true rfl, Nat.le_of_ble_eq_true rfl⟩) rfl hl.1 (Nat.le_of_ble_eq_true rfl) dX1_teller_27 ⟨Nat.le_refl _, Nat.le_refl _⟩) hS (fun p_14 V_15 H locs h hV hS => ?_)
      obtain ⟨n_18, z_n_18, h9⟩ := bO_e h
      clear h; subst z_n_18; have h := h9; clear h9
      obtain ⟨o_19, e_20, h⟩ := bO_e h
      refine v_cast S hK hV e_20 ct_SaidSo_Teller q974 dX1_teller_30 ?_
      refine lv_astore_n (lv' := [(3, .ref n_18), (0, .ref a0), (1, .int a1), (2, .int a2)]) hx hb dX1_teller_33 rfl hl (by decide) rfl (fun ls hl => ?_)
      refine lv_iload_n hx hb dX1_teller_34 rfl (lv_at hl 3 rfl) ?_
      refine lv_if_ne (tgt := 45) hx hb dX1_teller_35 (by decide) (fun c_21 => ?_) (fun c_21 => ?_)
      · replace h := h.2 c_21
        refine lv_iload_n hx hb dX1_teller_45 rfl (lv_at hl 3 rfl) ?_
        refine lv_iconst hx hb dX1_teller_46 kc_1 ?_
        refine lv_icmp_ne (tgt := 57) hx hb dX1_teller_47 (by decide) (fun c_22 => ?_) (fun c_22 => ?_)
        · replace h := h.2 c_22
          refine lv_iload_n hx hb dX1_teller_57 rfl (lv_at hl 3 rfl) ?_
          refine lv_iconst hx hb dX1_teller_58 kc_2 ?_
          refine lv_icmp_ne (tgt := 69) hx hb dX1_teller_59 (by decide) (fun c_23 => ?_) (fun c_23 => ?_)
          · replace h := h.2 c_23
            refine lv_aload_n hx hb dX1_teller_69 rfl (lv_at hl 0 rfl) ?_
            obtain ⟨g_24, e_25, h⟩ := bO_e h
            refine vg_i S hK hV fX1_170 e_25 dX1_teller_70 ?_
            exact ve_i S hlocks hret hV hS h rfl (Nat.le_refl _) (Nat.le_refl _) dX1_teller_73
          · replace h := h.1 c_23
            refine lv_aload_n hx hb dX1_teller_62 rfl (lv_at hl 0 rfl) ?_
            obtain ⟨g_26, e_27, h⟩ := bO_e h
            refine vg_i S hK hV fX1_167 e_27 dX1_teller_63 ?_
            refine lv_goto (tgt := 73) hx hb dX1_teller_66 (by decide) ?_
            exact ve_i S hlocks hret hV hS h rfl (Nat.le_refl _) (Nat.le_refl _) dX1_teller_73
        · replace h := h.1 c_22
          refine lv_aload_n hx hb dX1_teller_50 rfl (lv_at hl 0 rfl) ?_
          obtain ⟨g_28, e_29, h⟩ := bO_e h
          refine vg_i S hK hV fX1_164 e_29 dX1_teller_51 ?_
          refine lv_goto (tgt := 73) hx hb dX1_teller_54 (by decide) ?_
          exact ve_i S hlocks hret hV hS h rfl (Nat.le_refl _) (Nat.le_refl _) dX1_teller_73
      · replace h := h.1 c_21
        refine lv_aload_n hx hb dX1_teller_38 rfl (lv_at hl 0 rfl) ?_
        obtain ⟨g_30, e_31, h⟩ := bO_e h
        refine vg_i S hK hV fX1_161 e_31 dX1_teller_39 ?_
        refine lv_goto (tgt := 73) hx hb dX1_teller_42 (by decide) ?_
        exact ve_i S hlocks hret hV hS h rfl (Nat.le_refl _) (Nat.le_refl _) dX1_teller_73
    · replace h := h.1 c_7
      refine lv_iconst hx hb dX1_teller_17 kc_m1 ?_
      exact ve_i S hlocks hret hV hS h rfl (Nat.le_refl _) (Nat.le_refl _) dX1_teller_18
def vX1_isHeard (cA : Nat → ClassId) (a0 : Nat) (a1 : Int32) (V : VS) (Post : Int32 → VS → Prop) : Prop := bO (gR V [1] a0 11) (fun p_1 => bO p_1 (fun n_3 => bO (gR V [3] n_3 2) (fun p_4 => bO p_4 (fun n_6 => bO (vO V [14] n_6) (fun o_9 => vJ2_size cA n_6 V (fun r_7 V_8 => w1_in a1 (0 : Int32) (r_7 - (1 : Int32)) (fun r_11 => (r_11 = 0 → (Post (0 : Int32) V_8)) ∧ (¬ (r_11 = 0) → (bO (gR V_8 [1] a0 11) (fun p_13 => bO p_13 (fun n_15 => bO (gR V_8 [3] n_15 2) (fun p_16 => bO p_16 (fun n_18 => bO (vO V_8 [14] n_18) (fun o_21 => vJ2_get cA n_18 a1 V_8 (fun p_19 V_20 => bO p_19 (fun n_23 => bO (vO V_20 [7, 8] n_23) (fun o_24 => bO (gI V_20 [7, 8] n_23 4) (fun g_26 => bO (gI V_20 [1] a0 4) (fun g_28 => (g_28 < g_26 → (Post (0 : Int32) V_20)) ∧ (¬ (g_28 < g_26) → (Post (1 : Int32) V_20)))))))))))))))))))))
abbrev rX1_isHeard : Room := { frames := 3, cells := 0, slots := 0, locals := 64 }
theorem cdX1_isHeard : yX1_isHeard.cls = RX1 ∧ yX1_isHeard.cls ≠ "java/lang/invoke/MethodHandle" ∧ yX1_isHeard.cls ≠ "java/lang/invoke/VarHandle" ∧ (parseMethodDescriptor yX1_isHeard.desc).map (fun d => d.parameters.length) = some 1 := by decide +kernel
set_option maxHeartbeats 4000000 in
set_option maxRecDepth 100000 in
theorem mvX1_isHeard (l : Launch) {D : va_G} {cA : Nat → ClassId} {A : Nat → Prop} (a0 : Nat) (a1 : Int32) (V : VS) (Post : Int32 → VS → Prop) (h : vX1_isHeard cA a0 a1 V Post) : Met l yX1_isHeard (ws_ yX1_isHeard cX1_isHeard 2 (some (.boolean))) rX1_isHeard (vPc [.ref a0, .int a1] D cA A V) (va_Qi Post (vB D A) A) 0 0 A := by
  refine vstM (own := RX1) (by decide) rfl (Nat.le_of_ble_eq_true rfl) ?_
  intro p e s m args below meth c ls X hret hV hS hl
  obtain ⟨S, hK, hG, hA, hnm, hlocks⟩ := X
  have hx := S.1
  have hb := S.2.1
  have hl : lv_has ls 2 [(0, .ref a0), (1, .int a1)] := hl
  unfold vX1_isHeard at h
  refine lv_iload_n hx hb dX1_isHeard_0 rfl (lv_at hl 1 rfl) ?_
  refine lv_iconst hx hb dX1_isHeard_1 kc_0 ?_
  refine lv_aload_n hx hb dX1_isHeard_2 rfl (lv_at hl 0 rfl) ?_
  obtain ⟨p_1, e_2, h⟩ := bO_e h
  refine vg_r S hK hV fX1_49 e_2 dX1_isHeard_3 ?_
  obtain ⟨n_3, z_n_3, h9⟩ := bO_e h
  clear h; subst z_n_3; have h := h9; clear h9
  obtain ⟨p_4, e_5, h⟩ := bO_e h
  refine vg_r S hK hV fX1_173 e_5 dX1_isHeard_6 ?_
  obtain ⟨n_6, z_n_6, h9⟩ := bO_e h
  clear h; subst z_n_6; have h := h9; clear h9
  obtain ⟨o_9, e_10, h⟩ := bO_e h
  refine vk_i (vr_V (As := []) (rest := [.int (0 : Int32), .int a1]) S hK hG hA hV hS e_10 rfl (mvJ2_size l n_6 V _ h) (cwV 0 S.2.2.2.2 (lw_V q972 q591 q592 q144 q593) rfl rfl rfl cdJ2_size ⟨Nat.le_of_ble_eq_true rfl, Nat.le_of_ble_eq_true rfl⟩) rfl hl.1 (Nat.le_of_ble_eq_true rfl) dX1_isHeard_9 ⟨Nat.le_refl _, Nat.le_refl _⟩) hS (fun r_7 V_8 H locs h hV hS => ?_)
  refine lv_iconst hx hb dX1_isHeard_12 kc_1 ?_
  refine lv_isub hx hb dX1_isHeard_13 ?_
  refine sc_i S (As := [.int a1, .int (0 : Int32), .int (r_7 - (1 : Int32))]) (rest := []) (mt1_in l a1 (0 : Int32) (r_7 - (1 : Int32)) _ h) (va_cwS 3 S.2.2.2.2 (lw_S q367 q368 q139 q369) rfl rfl rfl cdX1_in ⟨Nat.le_of_ble_eq_true rfl, Nat.le_of_ble_eq_true rfl⟩) rfl rfl hl.1 (Nat.le_of_ble_eq_true rfl) dX1_isHeard_14 ⟨Nat.le_refl _, Nat.le_refl _⟩ (fun r_11 h => ?_)
  refine lv_if_eq (tgt := 48) hx hb dX1_isHeard_17 (by decide) (fun c_12 => ?_) (fun c_12 => ?_)
  · replace h := h.1 c_12
    refine lv_iconst hx hb dX1_isHeard_48 kc_0 ?_
    exact ve_i S hlocks hret hV hS h (vz_nar vz_0) (Nat.le_refl _) (Nat.le_refl _) dX1_isHeard_49
  · replace h := h.2 c_12
    refine lv_aload_n hx hb dX1_isHeard_20 rfl (lv_at hl 0 rfl) ?_
    obtain ⟨p_13, e_14, h⟩ := bO_e h
    refine vg_r S hK hV fX1_49 e_14 dX1_isHeard_21 ?_
    obtain ⟨n_15, z_n_15, h9⟩ := bO_e h
    clear h; subst z_n_15; have h := h9; clear h9
    obtain ⟨p_16, e_17, h⟩ := bO_e h
    refine vg_r S hK hV fX1_173 e_17 dX1_isHeard_24 ?_
    refine lv_iload_n hx hb dX1_isHeard_27 rfl (lv_at hl 1 rfl) ?_
    obtain ⟨n_18, z_n_18, h9⟩ := bO_e h
    clear h; subst z_n_18; have h := h9; clear h9
    obtain ⟨o_21, e_22, h⟩ := bO_e h
    refine vk_q (vr_V (As := [.int a1]) (rest := []) S hK hG hA hV hS e_22 rfl (mvJ2_get l n_18 a1 V_8 _ h) (cwV 1 S.2.2.2.2 (lw_V q973 q608 q609 q144 q610) rfl rfl rfl cdJ2_get ⟨Nat.le_of_ble_eq_true rfl, Nat.le_of_ble_eq_true rfl⟩) rfl hl.1 (Nat.le_of_ble_eq_true rfl) dX1_isHeard_28 ⟨Nat.le_refl _, Nat.le_refl _⟩) hS (fun p_19 V_20 H locs h hV hS => ?_)
    obtain ⟨n_23, z_n_23, h9⟩ := bO_e h
    clear h; subst z_n_23; have h := h9; clear h9
    obtain ⟨o_24, e_25, h⟩ := bO_e h
    refine v_cast S hK hV e_25 ct_SaidSo_Line q983 dX1_isHeard_31 ?_
    obtain ⟨g_26, e_27, h⟩ := bO_e h
    refine vg_i S hK hV fX1_178 e_27 dX1_isHeard_34 ?_
    refine lv_aload_n hx hb dX1_isHeard_37 rfl (lv_at hl 0 rfl) ?_
    obtain ⟨g_28, e_29, h⟩ := bO_e h
    refine vg_i S hK hV fX1_25 e_29 dX1_isHeard_38 ?_
    refine lv_icmp_gt (tgt := 48) hx hb dX1_isHeard_41 (by decide) (fun c_30 => ?_) (fun c_30 => ?_)
    · replace h := h.1 c_30
      refine lv_iconst hx hb dX1_isHeard_48 kc_0 ?_
      exact ve_i S hlocks hret hV hS h (vz_nar vz_0) (Nat.le_refl _) (Nat.le_refl _) dX1_isHeard_49
    · replace h := h.2 c_30
      refine lv_iconst hx hb dX1_isHeard_44 kc_1 ?_
      refine lv_goto (tgt := 49) hx hb dX1_isHeard_45 (by decide) ?_
      exact ve_i S hlocks hret hV hS h (vz_nar vz_1) (Nat.le_refl _) (Nat.le_refl _) dX1_isHeard_49
def vX8_isWord (cA : Nat → ClassId) (a0 : Nat) (V : VS) (Post : Int32 → VS → Prop) : Prop := Post (0 : Int32) V
abbrev rX8_isWord : Room := { frames := 0, cells := 0, slots := 0, locals := 0 }
theorem cdX8_isWord : yX8_isWord.cls = RX8 ∧ yX8_isWord.cls ≠ "java/lang/invoke/MethodHandle" ∧ yX8_isWord.cls ≠ "java/lang/invoke/VarHandle" ∧ (parseMethodDescriptor yX8_isWord.desc).map (fun d => d.parameters.length) = some 0 := by decide +kernel
set_option maxHeartbeats 4000000 in
set_option maxRecDepth 100000 in
theorem mvX8_isWord (l : Launch) {D : va_G} {cA : Nat → ClassId} {A : Nat → Prop} (a0 : Nat) (V : VS) (Post : Int32 → VS → Prop) (h : vX8_isWord cA a0 V Post) : Met l yX8_isWord (ws_ yX8_isWord cX8_isWord 1 (some (.boolean))) rX8_isWord (vPc [.ref a0] D cA A V) (va_Qi Post (vB D A) A) 0 0 A := by
  refine vstM (own := RX8) (by decide) rfl (Nat.le_of_ble_eq_true rfl) ?_
  intro p e s m args below meth c ls X hret hV hS hl
  obtain ⟨S, hK, hG, hA, hnm, hlocks⟩ := X
  have hx := S.1
  have hb := S.2.1
  have hl : lv_has ls 1 [(0, .ref a0)] := hl
  unfold vX8_isWord at h
  refine lv_iconst hx hb dX8_isWord_0 kc_0 ?_
  exact ve_i S hlocks hret hV hS h (vz_nar vz_0) (Nat.le_refl _) (Nat.le_refl _) dX8_isWord_1
def vX9_isWord (cA : Nat → ClassId) (a0 : Nat) (V : VS) (Post : Int32 → VS → Prop) : Prop := Post (1 : Int32) V
abbrev rX9_isWord : Room := { frames := 0, cells := 0, slots := 0, locals := 0 }
theorem cdX9_isWord : yX9_isWord.cls = RX9 ∧ yX9_isWord.cls ≠ "java/lang/invoke/MethodHandle" ∧ yX9_isWord.cls ≠ "java/lang/invoke/VarHandle" ∧ (parseMethodDescriptor yX9_isWord.desc).map (fun d => d.parameters.length) = some 0 := by decide +kernel
set_option maxHeartbeats 4000000 in
set_option maxRecDepth 100000 in
theorem mvX9_isWord (l : Launch) {D : va_G} {cA : Nat → ClassId} {A : Nat → Prop} (a0 : Nat) (V : VS) (Post : Int32 → VS → Prop) (h : vX9_isWord cA a0 V Post) : Met l yX9_isWord (ws_ yX9_isWord cX9_isWord 1 (some (.boolean))) rX9_isWord (vPc [.ref a0] D cA A V) (va_Qi Post (vB D A) A) 0 0 A := by
  refine vstM (own := RX9) (by decide) rfl (Nat.le_of_ble_eq_true rfl) ?_
  intro p e s m args below meth c ls X hret hV hS hl
  obtain ⟨S, hK, hG, hA, hnm, hlocks⟩ := X
  have hx := S.1
  have hb := S.2.1
  have hl : lv_has ls 1 [(0, .ref a0)] := hl
  unfold vX9_isWord at h
  refine lv_iconst hx hb dX9_isWord_0 kc_1 ?_
  exact ve_i S hlocks hret hV hS h (vz_nar vz_1) (Nat.le_refl _) (Nat.le_refl _) dX9_isWord_1
def vX1_line (cA : Nat → ClassId) (a0 : Nat) (a1 : Int32) (a2 : Int32) (V : VS) (Post : Int32 → VS → Prop) : Prop := bO (vO V [1] a0) (fun o_3 => vX1_isHeard cA a0 a1 V (fun r_1 V_2 => (r_1 = 0 → (Post (-2 : Int32) V_2)) ∧ (¬ (r_1 = 0) → (w1_in a2 (0 : Int32) (4 : Int32) (fun r_6 => (r_6 = 0 → (Post (-2 : Int32) V_2)) ∧ (¬ (r_6 = 0) → (bO (gR V_2 [1] a0 11) (fun p_8 => bO p_8 (fun n_10 => bO (gR V_2 [3] n_10 2) (fun p_11 => bO p_11 (fun n_13 => bO (vO V_2 [14] n_13) (fun o_16 => vJ2_get cA n_13 a1 V_2 (fun p_14 V_15 => bO p_14 (fun n_18 => bO (vO V_15 [7, 8] n_18) (fun o_19 => (a2 = 0 → (∀ K_24 : Int32 → VS → Prop, K_24 = (fun r_22 V_23 => (r_22 = 0 → (Post (0 : Int32) V_23)) ∧ (¬ (r_22 = 0) → (Post (1 : Int32) V_23))) → bO (vO V_15 [7, 8] n_18) (fun o_25 => (o_25.1 = 7 → vX9_isWord cA n_18 V_15 K_24) ∧ (¬ o_25.1 = 7 → vX8_isWord cA n_18 V_15 K_24)))) ∧ (¬ a2 = 0 → (a2 = 1 → (bO (gI V_15 [7, 8] n_18 2) (fun g_31 => Post g_31 V_15))) ∧ (¬ a2 = 1 → (a2 = 2 → (bO (gI V_15 [7, 8] n_18 4) (fun g_34 => Post g_34 V_15))) ∧ (¬ a2 = 2 → (a2 = 3 → (bO (gI V_15 [7, 8] n_18 3) (fun g_37 => Post g_37 V_15))) ∧ (¬ a2 = 3 → bO (gI V_15 [7, 8] n_18 5) (fun g_39 => Post g_39 V_15))))))))))))))))))))
abbrev rX1_line : Room := { frames := 4, cells := 0, slots := 0, locals := 85 }
theorem cdX1_line : yX1_line.cls = RX1 ∧ yX1_line.cls ≠ "java/lang/invoke/MethodHandle" ∧ yX1_line.cls ≠ "java/lang/invoke/VarHandle" ∧ (parseMethodDescriptor yX1_line.desc).map (fun d => d.parameters.length) = some 2 := by decide +kernel
set_option maxHeartbeats 4000000 in
set_option maxRecDepth 100000 in
theorem mvX1_line (l : Launch) {D : va_G} {cA : Nat → ClassId} {A : Nat → Prop} (a0 : Nat) (a1 : Int32) (a2 : Int32) (V : VS) (Post : Int32 → VS → Prop) (h : vX1_line cA a0 a1 a2 V Post) : Met l yX1_line (ws_ yX1_line cX1_line 4 (some (.int))) rX1_line (vPc [.ref a0, .int a1, .int a2] D cA A V) (va_Qi Post (vB D A) A) 0 0 A := by
  refine vstM (own := RX1) (by decide) rfl (Nat.le_of_ble_eq_true rfl) ?_
  intro p e s m args below meth c ls X hret hV hS hl
  obtain ⟨S, hK, hG, hA, hnm, hlocks⟩ := X
  have hx := S.1
  have hb := S.2.1
  have hl : lv_has ls 4 [(0, .ref a0), (1, .int a1), (2, .int a2)] := hl
  unfold vX1_line at h
  refine lv_aload_n hx hb dX1_line_0 rfl (lv_at hl 0 rfl) ?_
  refine lv_iload_n hx hb dX1_line_1 rfl (lv_at hl 1 rfl) ?_
  obtain ⟨o_3, e_4, h⟩ := bO_e h
  refine vk_i (vr_V (As := [.int a1]) (rest := []) S hK hG hA hV hS e_4 rfl (mvX1_isHeard l a0 a1 V _ h) (cwV 1 S.2.2.2.2 (lw_V q979 q981 qs32 q139 q982) rfl rfl rfl cdX1_isHeard ⟨Nat.le_of_ble_eq_true rfl, Nat.le_of_ble_eq_true rfl⟩) rfl hl.1 (Nat.le_of_ble_eq_true rfl) dX1_line_2 ⟨Nat.le_refl _, Nat.le_refl _⟩) hS (fun r_1 V_2 H locs h hV hS => ?_)
  refine lv_if_eq (tgt := 17) hx hb dX1_line_5 (by decide) (fun c_5 => ?_) (fun c_5 => ?_)
  · replace h := h.1 c_5
    refine lv_bipush hx hb dX1_line_17 kb_m2 ?_
    exact ve_i S hlocks hret hV hS h rfl (Nat.le_refl _) (Nat.le_refl _) dX1_line_19
  · replace h := h.2 c_5
    refine lv_iload_n hx hb dX1_line_8 rfl (lv_at hl 2 rfl) ?_
    refine lv_iconst hx hb dX1_line_9 kc_0 ?_
    refine lv_iconst hx hb dX1_line_10 kc_4 ?_
    refine sc_i S (As := [.int a2, .int (0 : Int32), .int (4 : Int32)]) (rest := []) (mt1_in l a2 (0 : Int32) (4 : Int32) _ h) (va_cwS 3 S.2.2.2.2 (lw_S q367 q368 q139 q369) rfl rfl rfl cdX1_in ⟨Nat.le_of_ble_eq_true rfl, Nat.le_of_ble_eq_true rfl⟩) rfl rfl hl.1 (Nat.le_of_ble_eq_true rfl) dX1_line_11 ⟨Nat.le_refl _, Nat.le_refl _⟩ (fun r_6 h => ?_)
    refine lv_if_ne (tgt := 20) hx hb dX1_line_14 (by decide) (fun c_7 => ?_) (fun c_7 => ?_)
    · replace h := h.2 c_7
      refine lv_aload_n hx hb dX1_line_20 rfl (lv_at hl 0 rfl) ?_
      obtain ⟨p_8, e_9, h⟩ := bO_e h
      refine vg_r S hK hV fX1_49 e_9 dX1_line_21 ?_
      obtain ⟨n_10, z_n_10, h9⟩ := bO_e h
      clear h; subst z_n_10; have h := h9; clear h9
      obtain ⟨p_11, e_12, h⟩ := bO_e h
      refine vg_r S hK hV fX1_173 e_12 dX1_line_24 ?_
      refine lv_iload_n hx hb dX1_line_27 rfl (lv_at hl 1 rfl) ?_
      obtain ⟨n_13, z_n_13, h9⟩ := bO_e h
      clear h; subst z_n_13; have h := h9; clear h9
      obtain ⟨o_16, e_17, h⟩ := bO_e h
      refine vk_q (vr_V (As := [.int a1]) (rest := []) S hK hG hA hV hS e_17 rfl (mvJ2_get l n_13 a1 V_2 _ h) (cwV 1 S.2.2.2.2 (lw_V q973 q608 q609 q144 q610) rfl rfl rfl cdJ2_get ⟨Nat.le_of_ble_eq_true rfl, Nat.le_of_ble_eq_true rfl⟩) rfl hl.1 (Nat.le_of_ble_eq_true rfl) dX1_line_28 ⟨Nat.le_refl _, Nat.le_refl _⟩) hS (fun p_14 V_15 H locs h hV hS => ?_)
      obtain ⟨n_18, z_n_18, h9⟩ := bO_e h
      clear h; subst z_n_18; have h := h9; clear h9
      obtain ⟨o_19, e_20, h⟩ := bO_e h
      refine v_cast S hK hV e_20 ct_SaidSo_Line q983 dX1_line_31 ?_
      refine lv_astore_n (lv' := [(3, .ref n_18), (0, .ref a0), (1, .int a1), (2, .int a2)]) hx hb dX1_line_34 rfl hl (by decide) rfl (fun ls hl => ?_)
      refine lv_iload_n hx hb dX1_line_35 rfl (lv_at hl 3 rfl) ?_
      by_cases c_21 : a2 = 0
      · replace h := h.1 c_21
        refine lv_tableIn (tgt := 68) hx hb dX1_line_36 (by rw [c_21]; decide) (by rw [c_21]; decide) (by rw [c_21]; rfl) (by decide) ?_
        refine lv_aload_n hx hb dX1_line_68 rfl (lv_at hl 0 rfl) ?_
        obtain ⟨K_24, e_K_24⟩ : ∃ y : Int32 → VS → Prop, y = (fun r_22 V_23 => (r_22 = 0 → (Post (0 : Int32) V_23)) ∧ (¬ (r_22 = 0) → (Post (1 : Int32) V_23))) := ⟨_, rfl⟩
        replace h := h K_24 e_K_24
        obtain ⟨o_25, e_26, h⟩ := bO_e h
        have hm := (vO_e e_26).2
        simp only [List.mem_cons, List.not_mem_nil, or_false] at hm
        have KK : ∀ (r_22 : Int32) (V_23 : VS) (H1 : Heap) (locs1 : List Loc), K_24 r_22 V_23 → HV D A V_23 H1 → va_S A s.heap H1 locs1 → W p l e rX1_line s m args below meth c H1 locs1 (0) (0) (MQ below (va_Qi Post (vB D A) A) args s 0 0 A) (F0 m 72 ls (.int r_22 :: [])) := by
          intro r_22 V_23 H locs h hV hS
          rw [e_K_24] at h
          refine lv_if_eq (tgt := 79) hx hb dX1_line_72 (by decide) (fun c_27 => ?_) (fun c_27 => ?_)
          · replace h := h.1 c_27
            refine lv_iconst hx hb dX1_line_79 kc_0 ?_
            exact ve_i S hlocks hret hV hS h rfl (Nat.le_refl _) (Nat.le_refl _) dX1_line_80
          · replace h := h.2 c_27
            refine lv_iconst hx hb dX1_line_75 kc_1 ?_
            refine lv_goto (tgt := 80) hx hb dX1_line_76 (by decide) ?_
            exact ve_i S hlocks hret hV hS h rfl (Nat.le_refl _) (Nat.le_refl _) dX1_line_80
        by_cases OC0 : o_25.1 = 7
        · replace h := h.1 OC0
          exact vk_i (vr_U (As := []) (rest := []) S hK hG hA hV hS e_26 OC0 rfl (mvX9_isWord l n_18 V_15 _ h) (va_cwO 0 S.2.2.2.2 (lw_O q984 q986 q985 q988 q989 q162 q990) rfl rfl rfl q991 (by decide +kernel) ⟨Nat.le_of_ble_eq_true rfl, Nat.le_of_ble_eq_true rfl⟩) rfl hl.1 (Nat.le_of_ble_eq_true rfl) dX1_line_69 ⟨Nat.le_refl _, Nat.le_refl _⟩) hS KK
        · replace h := h.2 OC0
          have OC1 : o_25.1 = 8 := by omega
          exact vk_i (vr_U (As := []) (rest := []) S hK hG hA hV hS e_26 OC1 rfl (mvX8_isWord l n_18 V_15 _ h) (va_cwU 0 S.2.2.2.2 (lw_U q984 q986 q987 q985 q161 q991) rfl rfl rfl rfl (by decide +kernel) ⟨Nat.le_of_ble_eq_true rfl, Nat.le_of_ble_eq_true rfl⟩) rfl hl.1 (Nat.le_of_ble_eq_true rfl) dX1_line_69 ⟨Nat.le_refl _, Nat.le_refl _⟩) hS KK
      · replace h := h.2 c_21
        by_cases c_30 : a2 = 1
        · replace h := h.1 c_30
          refine lv_tableIn (tgt := 81) hx hb dX1_line_36 (by rw [c_30]; decide) (by rw [c_30]; decide) (by rw [c_30]; rfl) (by decide) ?_
          refine lv_aload_n hx hb dX1_line_81 rfl (lv_at hl 0 rfl) ?_
          obtain ⟨g_31, e_32, h⟩ := bO_e h
          refine vg_i S hK hV fX1_181 e_32 dX1_line_82 ?_
          exact ve_i S hlocks hret hV hS h rfl (Nat.le_refl _) (Nat.le_refl _) dX1_line_85
        · replace h := h.2 c_30
          by_cases c_33 : a2 = 2
          · replace h := h.1 c_33
            refine lv_tableIn (tgt := 86) hx hb dX1_line_36 (by rw [c_33]; decide) (by rw [c_33]; decide) (by rw [c_33]; rfl) (by decide) ?_
            refine lv_aload_n hx hb dX1_line_86 rfl (lv_at hl 0 rfl) ?_
            obtain ⟨g_34, e_35, h⟩ := bO_e h
            refine vg_i S hK hV fX1_178 e_35 dX1_line_87 ?_
            exact ve_i S hlocks hret hV hS h rfl (Nat.le_refl _) (Nat.le_refl _) dX1_line_90
          · replace h := h.2 c_33
            by_cases c_36 : a2 = 3
            · replace h := h.1 c_36
              refine lv_tableIn (tgt := 91) hx hb dX1_line_36 (by rw [c_36]; decide) (by rw [c_36]; decide) (by rw [c_36]; rfl) (by decide) ?_
              refine lv_aload_n hx hb dX1_line_91 rfl (lv_at hl 0 rfl) ?_
              obtain ⟨g_37, e_38, h⟩ := bO_e h
              refine vg_i S hK hV fX1_184 e_38 dX1_line_92 ?_
              exact ve_i S hlocks hret hV hS h rfl (Nat.le_refl _) (Nat.le_refl _) dX1_line_95
            · replace h := h.2 c_36
              refine lv_tableOut (tgt := 96) hx hb dX1_line_36 (by have z0 := sw_n (n := 0) c_21 rfl; have z1 := sw_n (n := 1) c_30 rfl; have z2 := sw_n (n := 2) c_33 rfl; have z3 := sw_n (n := 3) c_36 rfl; omega) (by decide) ?_
              refine lv_aload_n hx hb dX1_line_96 rfl (lv_at hl 0 rfl) ?_
              obtain ⟨g_39, e_40, h⟩ := bO_e h
              refine vg_i S hK hV fX1_199 e_40 dX1_line_97 ?_
              exact ve_i S hlocks hret hV hS h rfl (Nat.le_refl _) (Nat.le_refl _) dX1_line_100
    · replace h := h.1 c_7
      refine lv_bipush hx hb dX1_line_17 kb_m2 ?_
      exact ve_i S hlocks hret hV hS h rfl (Nat.le_refl _) (Nat.le_refl _) dX1_line_19
def vX1_isThing (cA : Nat → ClassId) (a0 : Nat) (a1 : Int32) (V : VS) (Post : Int32 → VS → Prop) : Prop := bO (gR V [1] a0 11) (fun p_1 => bO p_1 (fun n_3 => bO (gR V [3] n_3 0) (fun p_4 => bO p_4 (fun n_6 => bO (vO V [14] n_6) (fun o_9 => vJ2_size cA n_6 V (fun r_7 V_8 => w1_in a1 (0 : Int32) (r_7 - (1 : Int32)) (fun r_11 => vz r_11 ∧ Post r_11 V_8)))))))
abbrev rX1_isThing : Room := { frames := 1, cells := 0, slots := 0, locals := 22 }
theorem cdX1_isThing : yX1_isThing.cls = RX1 ∧ yX1_isThing.cls ≠ "java/lang/invoke/MethodHandle" ∧ yX1_isThing.cls ≠ "java/lang/invoke/VarHandle" ∧ (parseMethodDescriptor yX1_isThing.desc).map (fun d => d.parameters.length) = some 1 := by decide +kernel
set_option maxHeartbeats 4000000 in
set_option maxRecDepth 100000 in
theorem mvX1_isThing (l : Launch) {D : va_G} {cA : Nat → ClassId} {A : Nat → Prop} (a0 : Nat) (a1 : Int32) (V : VS) (Post : Int32 → VS → Prop) (h : vX1_isThing cA a0 a1 V Post) : Met l yX1_isThing (ws_ yX1_isThing cX1_isThing 2 (some (.boolean))) rX1_isThing (vPc [.ref a0, .int a1] D cA A V) (va_Qi Post (vB D A) A) 0 0 A := by
  refine vstM (own := RX1) (by decide) rfl (Nat.le_of_ble_eq_true rfl) ?_
  intro p e s m args below meth c ls X hret hV hS hl
  obtain ⟨S, hK, hG, hA, hnm, hlocks⟩ := X
  have hx := S.1
  have hb := S.2.1
  have hl : lv_has ls 2 [(0, .ref a0), (1, .int a1)] := hl
  unfold vX1_isThing at h
  refine lv_iload_n hx hb dX1_isThing_0 rfl (lv_at hl 1 rfl) ?_
  refine lv_iconst hx hb dX1_isThing_1 kc_0 ?_
  refine lv_aload_n hx hb dX1_isThing_2 rfl (lv_at hl 0 rfl) ?_
  obtain ⟨p_1, e_2, h⟩ := bO_e h
  refine vg_r S hK hV fX1_49 e_2 dX1_isThing_3 ?_
  obtain ⟨n_3, z_n_3, h9⟩ := bO_e h
  clear h; subst z_n_3; have h := h9; clear h9
  obtain ⟨p_4, e_5, h⟩ := bO_e h
  refine vg_r S hK hV fX1_125 e_5 dX1_isThing_6 ?_
  obtain ⟨n_6, z_n_6, h9⟩ := bO_e h
  clear h; subst z_n_6; have h := h9; clear h9
  obtain ⟨o_9, e_10, h⟩ := bO_e h
  refine vk_i (vr_V (As := []) (rest := [.int (0 : Int32), .int a1]) S hK hG hA hV hS e_10 rfl (mvJ2_size l n_6 V _ h) (cwV 0 S.2.2.2.2 (lw_V q972 q591 q592 q144 q593) rfl rfl rfl cdJ2_size ⟨Nat.le_of_ble_eq_true rfl, Nat.le_of_ble_eq_true rfl⟩) rfl hl.1 (Nat.le_of_ble_eq_true rfl) dX1_isThing_9 ⟨Nat.le_refl _, Nat.le_refl _⟩) hS (fun r_7 V_8 H locs h hV hS => ?_)
  refine lv_iconst hx hb dX1_isThing_12 kc_1 ?_
  refine lv_isub hx hb dX1_isThing_13 ?_
  refine sc_i S (As := [.int a1, .int (0 : Int32), .int (r_7 - (1 : Int32))]) (rest := []) (mt1_in l a1 (0 : Int32) (r_7 - (1 : Int32)) _ h) (va_cwS 3 S.2.2.2.2 (lw_S q367 q368 q139 q369) rfl rfl rfl cdX1_in ⟨Nat.le_of_ble_eq_true rfl, Nat.le_of_ble_eq_true rfl⟩) rfl rfl hl.1 (Nat.le_of_ble_eq_true rfl) dX1_isThing_14 ⟨Nat.le_refl _, Nat.le_refl _⟩ (fun r_11 h => ?_)
  exact ve_i S hlocks hret hV hS h.2 (vz_nar h.1) (Nat.le_refl _) (Nat.le_refl _) dX1_isThing_17
def vX3_latest_c61 (cA : Nat → ClassId) (a0 : Nat) (a1 : Int32) (k17 : Int32 → Int32 → VS → Prop) (Post : Int32 → VS → Prop) (x2 : Int32) (x3 : Int32) (V : VS) : Prop := ∀ v_34 : Int32, v_34 = x3 + (1 : Int32) → k17 x2 v_34 V
def vX3_latest_l17 (cA : Nat → ClassId) (a0 : Nat) (a1 : Int32) (Post : Int32 → VS → Prop) : Nat → Int32 → Int32 → VS → Prop
  | 0, _, _, _ => False
  | n + 1, x2, x3, V => bO (gR V [3] a0 2) (fun p_13 => bO p_13 (fun n_15 => bO (vO V [14] n_15) (fun o_18 => vJ2_size cA n_15 V (fun r_16 V_17 => (r_16 ≤ x3 → (Post x2 V_17)) ∧ (¬ (r_16 ≤ x3) → (bO (gR V_17 [3] a0 2) (fun p_21 => bO p_21 (fun n_23 => bO (vO V_17 [14] n_23) (fun o_26 => vJ2_get cA n_23 x3 V_17 (fun p_24 V_25 => bO p_24 (fun n_28 => bO (vO V_25 [7, 8] n_28) (fun o_29 => bO (gI V_25 [7, 8] n_28 2) (fun g_31 => (g_31 = a1 → (bO (gR V_25 [3] a0 2) (fun p_35 => bO p_35 (fun n_37 => bO (vO V_25 [14] n_37) (fun o_40 => vJ2_get cA n_37 x3 V_25 (fun p_38 V_39 => bO p_38 (fun n_42 => bO (vO V_39 [7, 8] n_42) (fun o_43 => bO (gI V_39 [7, 8] n_42 4) (fun g_45 => vX3_latest_c61 cA a0 a1 (vX3_latest_l17 cA a0 a1 Post n) Post g_45 x3 V_39))))))))) ∧ (¬ (g_31 = a1) → (vX3_latest_c61 cA a0 a1 (vX3_latest_l17 cA a0 a1 Post n) Post x2 x3 V_25)))))))))))))))
def vX3_latest (cA : Nat → ClassId) (a0 : Nat) (a1 : Int32) (V : VS) (Post : Int32 → VS → Prop) : Prop := bO (gR V [3] a0 1) (fun p_1 => bO p_1 (fun n_3 => bO (vO V [14] n_3) (fun o_6 => vJ2_get cA n_3 a1 V (fun p_4 V_5 => bO p_4 (fun n_8 => bO (vO V_5 [6] n_8) (fun o_9 => bO (gI V_5 [6] n_8 2) (fun g_11 => ∃ f, vX3_latest_l17 cA a0 a1 Post f g_11 (0 : Int32) V_5)))))))
abbrev rX3_latest : Room := { frames := 3, cells := 0, slots := 0, locals := 64 }
theorem cdX3_latest : yX3_latest.cls = RX3 ∧ yX3_latest.cls ≠ "java/lang/invoke/MethodHandle" ∧ yX3_latest.cls ≠ "java/lang/invoke/VarHandle" ∧ (parseMethodDescriptor yX3_latest.desc).map (fun d => d.parameters.length) = some 1 := by decide +kernel
set_option maxHeartbeats 4000000 in
set_option maxRecDepth 100000 in
theorem mvX3_latest (l : Launch) {D : va_G} {cA : Nat → ClassId} {A : Nat → Prop} (a0 : Nat) (a1 : Int32) (V : VS) (Post : Int32 → VS → Prop) (h : vX3_latest cA a0 a1 V Post) : Met l yX3_latest (ws_ yX3_latest cX3_latest 4 (some (.int))) rX3_latest (vPc [.ref a0, .int a1] D cA A V) (va_Qi Post (vB D A) A) 0 0 A := by
  refine vstM (own := RX3) (by decide) rfl (Nat.le_of_ble_eq_true rfl) ?_
  intro p e s m args below meth c ls X hret hV hS hl
  obtain ⟨S, hK, hG, hA, hnm, hlocks⟩ := X
  have hx := S.1
  have hb := S.2.1
  have hl : lv_has ls 4 [(0, .ref a0), (1, .int a1)] := hl
  have C61 : ∀ (k17 : Int32 → Int32 → VS → Prop) (K17 : (∀ (x2 : Int32) (x3 : Int32) (V : VS) (H : Heap) (locs : List Loc) (ls : Array Slot), HV D A V H → va_S A s.heap H locs → lv_has ls 4 [(0, .ref a0), (1, .int a1), (2, .int x2), (3, .int x3)] → k17 x2 x3 V → W p l e rX3_latest s m args below meth c H locs 0 0 (MQ below (va_Qi Post (vB D A) A) args s 0 0 A) (F0 m 17 ls []))), ∀ (x2 : Int32) (x3 : Int32) (V : VS) (H : Heap) (locs : List Loc) (ls : Array Slot), HV D A V H → va_S A s.heap H locs → lv_has ls 4 [(0, .ref a0), (1, .int a1), (2, .int x2), (3, .int x3)] → vX3_latest_c61 cA a0 a1 k17 Post x2 x3 V → W p l e rX3_latest s m args below meth c H locs 0 0 (MQ below (va_Qi Post (vB D A) A) args s 0 0 A) (F0 m 61 ls []) := by
    intro k17 K17
    intro x2 x3 V H locs ls hV hS hl h
    unfold vX3_latest_c61 at h
    obtain ⟨v_34, e_v_34⟩ : ∃ y : Int32, y = x3 + (1 : Int32) := ⟨_, rfl⟩
    replace h := h v_34 e_v_34
    refine lv_iinc (v := v_34) (lv' := [(3, .int v_34), (0, .ref a0), (1, .int a1), (2, .int x2)]) hx hb dX3_latest_61 hl (k := 3) rfl (by rw [kc_1, e_v_34]) (by decide) rfl (fun ls hl => ?_)
    refine lv_goto (tgt := 17) hx hb dX3_latest_64 (by decide) ?_
    exact K17 _ _ _ _ _ _ hV hS (lv_sub hl [1, 2, 3, 0] rfl) h
  have L17 : ∀ (n : Nat) (x2 : Int32) (x3 : Int32) (V : VS) (H : Heap) (locs : List Loc) (ls : Array Slot), HV D A V H → va_S A s.heap H locs → lv_has ls 4 [(0, .ref a0), (1, .int a1), (2, .int x2), (3, .int x3)] → vX3_latest_l17 cA a0 a1 Post n x2 x3 V → W p l e rX3_latest s m args below meth c H locs 0 0 (MQ below (va_Qi Post (vB D A) A) args s 0 0 A) (F0 m 17 ls []) := by
    intro n
    induction n with
    | zero => intro x2 x3 V H locs ls hV hS hl h; rw [vX3_latest_l17] at h; exact h.elim
    | succ n ih =>
      intro x2 x3 V H locs ls hV hS hl h
      rw [vX3_latest_l17] at h
      refine lv_iload_n hx hb dX3_latest_17 rfl (lv_at hl 3 rfl) ?_
      refine lv_aload_n hx hb dX3_latest_18 rfl (lv_at hl 0 rfl) ?_
      obtain ⟨p_13, e_14, h⟩ := bO_e h
      refine vg_r S hK hV fX3_23 e_14 dX3_latest_19 ?_
      obtain ⟨n_15, z_n_15, h9⟩ := bO_e h
      clear h; subst z_n_15; have h := h9; clear h9
      obtain ⟨o_18, e_19, h⟩ := bO_e h
      refine vk_i (vr_V (As := []) (rest := [.int x3]) S hK hG hA hV hS e_19 rfl (mvJ2_size l n_15 V _ h) (cwV 0 S.2.2.2.2 (lw_V q606 q591 q592 q144 q593) rfl rfl rfl cdJ2_size ⟨Nat.le_of_ble_eq_true rfl, Nat.le_of_ble_eq_true rfl⟩) rfl hl.1 (Nat.le_of_ble_eq_true rfl) dX3_latest_22 ⟨Nat.le_refl _, Nat.le_refl _⟩) hS (fun r_16 V_17 H locs h hV hS => ?_)
      refine lv_icmp_ge (tgt := 67) hx hb dX3_latest_25 (by decide) (fun c_20 => ?_) (fun c_20 => ?_)
      · replace h := h.1 c_20
        refine lv_iload_n hx hb dX3_latest_67 rfl (lv_at hl 2 rfl) ?_
        exact ve_i S hlocks hret hV hS h rfl (Nat.le_refl _) (Nat.le_refl _) dX3_latest_68
      · replace h := h.2 c_20
        refine lv_aload_n hx hb dX3_latest_28 rfl (lv_at hl 0 rfl) ?_
        obtain ⟨p_21, e_22, h⟩ := bO_e h
        refine vg_r S hK hV fX3_23 e_22 dX3_latest_29 ?_
        refine lv_iload_n hx hb dX3_latest_32 rfl (lv_at hl 3 rfl) ?_
        obtain ⟨n_23, z_n_23, h9⟩ := bO_e h
        clear h; subst z_n_23; have h := h9; clear h9
        obtain ⟨o_26, e_27, h⟩ := bO_e h
        refine vk_q (vr_V (As := [.int x3]) (rest := []) S hK hG hA hV hS e_27 rfl (mvJ2_get l n_23 x3 V_17 _ h) (cwV 1 S.2.2.2.2 (lw_V q607 q608 q609 q144 q610) rfl rfl rfl cdJ2_get ⟨Nat.le_of_ble_eq_true rfl, Nat.le_of_ble_eq_true rfl⟩) rfl hl.1 (Nat.le_of_ble_eq_true rfl) dX3_latest_33 ⟨Nat.le_refl _, Nat.le_refl _⟩) hS (fun p_24 V_25 H locs h hV hS => ?_)
        obtain ⟨n_28, z_n_28, h9⟩ := bO_e h
        clear h; subst z_n_28; have h := h9; clear h9
        obtain ⟨o_29, e_30, h⟩ := bO_e h
        refine v_cast S hK hV e_30 ct_SaidSo_Line q775 dX3_latest_36 ?_
        obtain ⟨g_31, e_32, h⟩ := bO_e h
        refine vg_i S hK hV fX3_57 e_32 dX3_latest_39 ?_
        refine lv_iload_n hx hb dX3_latest_42 rfl (lv_at hl 1 rfl) ?_
        refine lv_icmp_ne (tgt := 61) hx hb dX3_latest_43 (by decide) (fun c_33 => ?_) (fun c_33 => ?_)
        · replace h := h.2 c_33
          exact C61 _ ih _ _ _ _ _ _ hV hS (lv_sub hl [0, 1, 2, 3] rfl) h
        · replace h := h.1 c_33
          refine lv_aload_n hx hb dX3_latest_46 rfl (lv_at hl 0 rfl) ?_
          obtain ⟨p_35, e_36, h⟩ := bO_e h
          refine vg_r S hK hV fX3_23 e_36 dX3_latest_47 ?_
          refine lv_iload_n hx hb dX3_latest_50 rfl (lv_at hl 3 rfl) ?_
          obtain ⟨n_37, z_n_37, h9⟩ := bO_e h
          clear h; subst z_n_37; have h := h9; clear h9
          obtain ⟨o_40, e_41, h⟩ := bO_e h
          refine vk_q (vr_V (As := [.int x3]) (rest := []) S hK hG hA hV hS e_41 rfl (mvJ2_get l n_37 x3 V_25 _ h) (cwV 1 S.2.2.2.2 (lw_V q607 q608 q609 q144 q610) rfl rfl rfl cdJ2_get ⟨Nat.le_of_ble_eq_true rfl, Nat.le_of_ble_eq_true rfl⟩) rfl hl.1 (Nat.le_of_ble_eq_true rfl) dX3_latest_51 ⟨Nat.le_refl _, Nat.le_refl _⟩) hS (fun p_38 V_39 H locs h hV hS => ?_)
          obtain ⟨n_42, z_n_42, h9⟩ := bO_e h
          clear h; subst z_n_42; have h := h9; clear h9
          obtain ⟨o_43, e_44, h⟩ := bO_e h
          refine v_cast S hK hV e_44 ct_SaidSo_Line q775 dX3_latest_54 ?_
          obtain ⟨g_45, e_46, h⟩ := bO_e h
          refine vg_i S hK hV fX3_60 e_46 dX3_latest_57 ?_
          refine lv_istore_n (lv' := [(2, .int g_45), (0, .ref a0), (1, .int a1), (3, .int x3)]) hx hb dX3_latest_60 rfl hl (by decide) rfl (fun ls hl => ?_)
          exact C61 _ ih _ _ _ _ _ _ hV hS (lv_sub hl [1, 2, 0, 3] rfl) h
  unfold vX3_latest at h
  refine lv_aload_n hx hb dX3_latest_0 rfl (lv_at hl 0 rfl) ?_
  obtain ⟨p_1, e_2, h⟩ := bO_e h
  refine vg_r S hK hV fX3_20 e_2 dX3_latest_1 ?_
  refine lv_iload_n hx hb dX3_latest_4 rfl (lv_at hl 1 rfl) ?_
  obtain ⟨n_3, z_n_3, h9⟩ := bO_e h
  clear h; subst z_n_3; have h := h9; clear h9
  obtain ⟨o_6, e_7, h⟩ := bO_e h
  refine vk_q (vr_V (As := [.int a1]) (rest := []) S hK hG hA hV hS e_7 rfl (mvJ2_get l n_3 a1 V _ h) (cwV 1 S.2.2.2.2 (lw_V q607 q608 q609 q144 q610) rfl rfl rfl cdJ2_get ⟨Nat.le_of_ble_eq_true rfl, Nat.le_of_ble_eq_true rfl⟩) rfl hl.1 (Nat.le_of_ble_eq_true rfl) dX3_latest_5 ⟨Nat.le_refl _, Nat.le_refl _⟩) hS (fun p_4 V_5 H locs h hV hS => ?_)
  obtain ⟨n_8, z_n_8, h9⟩ := bO_e h
  clear h; subst z_n_8; have h := h9; clear h9
  obtain ⟨o_9, e_10, h⟩ := bO_e h
  refine v_cast S hK hV e_10 ct_SaidSo_Teller q624 dX3_latest_8 ?_
  obtain ⟨g_11, e_12, h⟩ := bO_e h
  refine vg_i S hK hV fX3_52 e_12 dX3_latest_11 ?_
  refine lv_istore_n (lv' := [(2, .int g_11), (0, .ref a0), (1, .int a1)]) hx hb dX3_latest_14 rfl hl (by decide) rfl (fun ls hl => ?_)
  refine lv_iconst hx hb dX3_latest_15 kc_0 ?_
  refine lv_istore_n (lv' := [(3, .int (0 : Int32)), (2, .int g_11), (0, .ref a0), (1, .int a1)]) hx hb dX3_latest_16 rfl hl (by decide) rfl (fun ls hl => ?_)
  obtain ⟨f, h⟩ := h
  exact L17 f _ _ _ _ _ _ hV hS (lv_sub hl [2, 3, 1, 0] rfl) h
def vX8_init (cA : Nat → ClassId) (a0 : Nat) (a1 : Nat) (a2 : Int32) (a3 : Int32) (a4 : Int32) (a5 : Int32) (V : VS) (Post : VS → Prop) : Prop := bO (pF V [7, 8] a0 2 (.int a2)) (fun V_1 => bO (pF V_1 [7, 8] a0 3 (.int a4)) (fun V_3 => bO (gR V_3 [3] a1 1) (fun p_5 => bO p_5 (fun n_7 => bO (vO V_3 [14] n_7) (fun o_10 => vJ2_get cA n_7 a2 V_3 (fun p_8 V_9 => bO p_8 (fun n_12 => bO (vO V_9 [6] n_12) (fun o_13 => bO (pF V_9 [7, 8] a0 0 (.ref n_12)) (fun V_15 => bO (gR V_15 [3] a1 0) (fun p_17 => bO p_17 (fun n_19 => bO (vO V_15 [14] n_19) (fun o_22 => vJ2_get cA n_19 a4 V_15 (fun p_20 V_21 => bO p_20 (fun n_24 => bO (vO V_21 [5] n_24) (fun o_25 => bO (pF V_21 [7, 8] a0 1 (.ref n_24)) (fun V_27 => bO (pF V_27 [7, 8] a0 4 (.int a3)) (fun V_29 => bO (pF V_29 [7, 8] a0 5 (.int a5)) (fun V_31 => Post V_31))))))))))))))))))
abbrev rX8_init : Room := { frames := 3, cells := 0, slots := 0, locals := 64 }
theorem cdX8_init : yX8_init.cls ≠ "java/lang/invoke/MethodHandle" ∧ yX8_init.cls ≠ "java/lang/invoke/VarHandle" ∧ (parseMethodDescriptor yX8_init.desc).map (fun d => d.parameters.length) = some 5 := by decide +kernel
set_option maxHeartbeats 4000000 in
set_option maxRecDepth 100000 in
theorem mvX8_init (l : Launch) {D : va_G} {cA : Nat → ClassId} {A : Nat → Prop} (a0 : Nat) (a1 : Nat) (a2 : Int32) (a3 : Int32) (a4 : Int32) (a5 : Int32) (V : VS) (Post : VS → Prop) (h : vX8_init cA a0 a1 a2 a3 a4 a5 V Post) : Met l yX8_init (ws_ yX8_init cX8_init 6 none) rX8_init (vPc [.ref a0, .ref a1, .int a2, .int a3, .int a4, .int a5] D cA A V) (va_Qv Post (vB D A) A) 0 0 A := by
  refine vstM (own := RX8) (by decide) rfl (Nat.le_of_ble_eq_true rfl) ?_
  intro p e s m args below meth c ls X hret hV hS hl
  obtain ⟨S, hK, hG, hA, hnm, hlocks⟩ := X
  have hx := S.1
  have hb := S.2.1
  have hl : lv_has ls 6 [(0, .ref a0), (1, .ref a1), (2, .int a2), (3, .int a3), (4, .int a4), (5, .int a5)] := hl
  unfold vX8_init at h
  refine lv_aload_n hx hb dX8_init_0 rfl (lv_at hl 0 rfl) ?_
  refine W.objInit hx hb S.2.2.2.1 (S.2.2.2.2 _ q784) (S.2.2.2.2 _ q181) (S.2.2.2.2 _ q182) rfl (hl.1.trans S.2.2.1.symm) rfl dX8_init_1 (Nat.le_of_ble_eq_true rfl) (Nat.le_of_ble_eq_true rfl) ?_
  refine W.eq (g2 := F0 m 4 ls []) rfl ?_
  refine lv_aload_n hx hb dX8_init_4 rfl (lv_at hl 0 rfl) ?_
  refine lv_iload_n hx hb dX8_init_5 rfl (lv_at hl 2 rfl) ?_
  obtain ⟨V_1, e_2, h⟩ := bO_e h
  refine vp_v (v := .int a2) S hK hV hS fX8_7 (Or.inr ⟨hnm, by decide +kernel, by decide +kernel⟩) rfl rfl e_2 dX8_init_6 (fun H locs hV hS => ?_)
  refine lv_aload_n hx hb dX8_init_9 rfl (lv_at hl 0 rfl) ?_
  refine lv_iload hx hb dX8_init_10 (lv_at hl 4 rfl) ?_
  obtain ⟨V_3, e_4, h⟩ := bO_e h
  refine vp_v (v := .int a4) S hK hV hS fX8_13 (Or.inr ⟨hnm, by decide +kernel, by decide +kernel⟩) rfl rfl e_4 dX8_init_12 (fun H locs hV hS => ?_)
  refine lv_aload_n hx hb dX8_init_15 rfl (lv_at hl 0 rfl) ?_
  refine lv_aload_n hx hb dX8_init_16 rfl (lv_at hl 1 rfl) ?_
  obtain ⟨p_5, e_6, h⟩ := bO_e h
  refine vg_r S hK hV fX8_16 e_6 dX8_init_17 ?_
  refine lv_iload_n hx hb dX8_init_20 rfl (lv_at hl 2 rfl) ?_
  obtain ⟨n_7, z_n_7, h9⟩ := bO_e h
  clear h; subst z_n_7; have h := h9; clear h9
  obtain ⟨o_10, e_11, h⟩ := bO_e h
  refine vk_q (vr_V (As := [.int a2]) (rest := [.ref a0]) S hK hG hA hV hS e_11 rfl (mvJ2_get l n_7 a2 V_3 _ h) (cwV 1 S.2.2.2.2 (lw_V q785 q608 q609 q144 q610) rfl rfl rfl cdJ2_get ⟨Nat.le_of_ble_eq_true rfl, Nat.le_of_ble_eq_true rfl⟩) rfl hl.1 (Nat.le_of_ble_eq_true rfl) dX8_init_21 ⟨Nat.le_refl _, Nat.le_refl _⟩) hS (fun p_8 V_9 H locs h hV hS => ?_)
  obtain ⟨n_12, z_n_12, h9⟩ := bO_e h
  clear h; subst z_n_12; have h := h9; clear h9
  obtain ⟨o_13, e_14, h⟩ := bO_e h
  refine v_cast S hK hV e_14 ct_SaidSo_Teller q786 dX8_init_24 ?_
  obtain ⟨V_15, e_16, h⟩ := bO_e h
  refine vp_v (v := .ref n_12) S hK hV hS fX8_30 (Or.inr ⟨hnm, by decide +kernel, by decide +kernel⟩) (va_rf_nar (r := some n_12)).1 (va_rf_nar (r := some n_12)).2 e_16 dX8_init_27 (fun H locs hV hS => ?_)
  refine lv_aload_n hx hb dX8_init_30 rfl (lv_at hl 0 rfl) ?_
  refine lv_aload_n hx hb dX8_init_31 rfl (lv_at hl 1 rfl) ?_
  obtain ⟨p_17, e_18, h⟩ := bO_e h
  refine vg_r S hK hV fX8_34 e_18 dX8_init_32 ?_
  refine lv_iload hx hb dX8_init_35 (lv_at hl 4 rfl) ?_
  obtain ⟨n_19, z_n_19, h9⟩ := bO_e h
  clear h; subst z_n_19; have h := h9; clear h9
  obtain ⟨o_22, e_23, h⟩ := bO_e h
  refine vk_q (vr_V (As := [.int a4]) (rest := [.ref a0]) S hK hG hA hV hS e_23 rfl (mvJ2_get l n_19 a4 V_15 _ h) (cwV 1 S.2.2.2.2 (lw_V q785 q608 q609 q144 q610) rfl rfl rfl cdJ2_get ⟨Nat.le_of_ble_eq_true rfl, Nat.le_of_ble_eq_true rfl⟩) rfl hl.1 (Nat.le_of_ble_eq_true rfl) dX8_init_37 ⟨Nat.le_refl _, Nat.le_refl _⟩) hS (fun p_20 V_21 H locs h hV hS => ?_)
  obtain ⟨n_24, z_n_24, h9⟩ := bO_e h
  clear h; subst z_n_24; have h := h9; clear h9
  obtain ⟨o_25, e_26, h⟩ := bO_e h
  refine v_cast S hK hV e_26 ct_SaidSo_Thing q787 dX8_init_40 ?_
  obtain ⟨V_27, e_28, h⟩ := bO_e h
  refine vp_v (v := .ref n_24) S hK hV hS fX8_39 (Or.inr ⟨hnm, by decide +kernel, by decide +kernel⟩) (va_rf_nar (r := some n_24)).1 (va_rf_nar (r := some n_24)).2 e_28 dX8_init_43 (fun H locs hV hS => ?_)
  refine lv_aload_n hx hb dX8_init_46 rfl (lv_at hl 0 rfl) ?_
  refine lv_iload_n hx hb dX8_init_47 rfl (lv_at hl 3 rfl) ?_
  obtain ⟨V_29, e_30, h⟩ := bO_e h
  refine vp_v (v := .int a3) S hK hV hS fX8_43 (Or.inr ⟨hnm, by decide +kernel, by decide +kernel⟩) rfl rfl e_30 dX8_init_48 (fun H locs hV hS => ?_)
  refine lv_aload_n hx hb dX8_init_51 rfl (lv_at hl 0 rfl) ?_
  refine lv_iload hx hb dX8_init_52 (lv_at hl 5 rfl) ?_
  obtain ⟨V_31, e_32, h⟩ := bO_e h
  refine vp_v (v := .int a5) S hK hV hS fX8_46 (Or.inr ⟨hnm, by decide +kernel, by decide +kernel⟩) rfl rfl e_32 dX8_init_54 (fun H locs hV hS => ?_)
  exact ve_v S hlocks hret hV hS h (Nat.le_refl _) (Nat.le_refl _) dX8_init_57
def vX9_init (cA : Nat → ClassId) (a0 : Nat) (a1 : Nat) (a2 : Int32) (a3 : Int32) (a4 : Int32) (a5 : Int32) (V : VS) (Post : VS → Prop) : Prop := vX8_init cA a0 a1 a2 a3 a4 a5 V (fun V_2 => Post V_2)
abbrev rX9_init : Room := { frames := 4, cells := 0, slots := 0, locals := 89 }
theorem cdX9_init : yX9_init.cls ≠ "java/lang/invoke/MethodHandle" ∧ yX9_init.cls ≠ "java/lang/invoke/VarHandle" ∧ (parseMethodDescriptor yX9_init.desc).map (fun d => d.parameters.length) = some 5 := by decide +kernel
set_option maxHeartbeats 4000000 in
set_option maxRecDepth 100000 in
theorem mvX9_init (l : Launch) {D : va_G} {cA : Nat → ClassId} {A : Nat → Prop} (a0 : Nat) (a1 : Nat) (a2 : Int32) (a3 : Int32) (a4 : Int32) (a5 : Int32) (V : VS) (Post : VS → Prop) (h : vX9_init cA a0 a1 a2 a3 a4 a5 V Post) : Met l yX9_init (ws_ yX9_init cX9_init 6 none) rX9_init (vPc [.ref a0, .ref a1, .int a2, .int a3, .int a4, .int a5] D cA A V) (va_Qv Post (vB D A) A) 0 0 A := by
  refine vstM (own := RX9) (by decide) rfl (Nat.le_of_ble_eq_true rfl) ?_
  intro p e s m args below meth c ls X hret hV hS hl
  obtain ⟨S, hK, hG, hA, hnm, hlocks⟩ := X
  have hx := S.1
  have hb := S.2.1
  have hl : lv_has ls 6 [(0, .ref a0), (1, .ref a1), (2, .int a2), (3, .int a3), (4, .int a4), (5, .int a5)] := hl
  unfold vX9_init at h
  refine lv_aload_n hx hb dX9_init_0 rfl (lv_at hl 0 rfl) ?_
  refine lv_aload_n hx hb dX9_init_1 rfl (lv_at hl 1 rfl) ?_
  refine lv_iload_n hx hb dX9_init_2 rfl (lv_at hl 2 rfl) ?_
  refine lv_iload_n hx hb dX9_init_3 rfl (lv_at hl 3 rfl) ?_
  refine lv_iload hx hb dX9_init_4 (lv_at hl 4 rfl) ?_
  refine lv_iload hx hb dX9_init_6 (lv_at hl 5 rfl) ?_
  refine vk_v (vr_I (As := [.ref a1, .int a2, .int a3, .int a4, .int a5]) (rest := []) S hK hG hA hV hS (mvX8_init l a0 a1 a2 a3 a4 a5 V _ h) (cwI 5 S.2.2.2.2 (lw_meth q783) rfl rfl rfl (S.2.2.2.2 _ q161) (S.2.2.2.2 _ q781) (S.2.2.2.2 _ q782) rfl cdX8_init ⟨Nat.le_of_ble_eq_true rfl, Nat.le_of_ble_eq_true rfl⟩) rfl hl.1 (Nat.le_of_ble_eq_true rfl) dX9_init_8 ⟨Nat.le_refl _, Nat.le_refl _⟩) hS (fun V_2 H locs h hV hS => ?_)
  exact ve_v S hlocks hret hV hS h (Nat.le_refl _) (Nat.le_refl _) dX9_init_11
def vX10_init (cA : Nat → ClassId) (a0 : Nat) (a1 : Nat) (a2 : Int32) (a3 : Int32) (a4 : Int32) (a5 : Int32) (V : VS) (Post : VS → Prop) : Prop := vX8_init cA a0 a1 a2 a3 a4 a5 V (fun V_2 => Post V_2)
abbrev rX10_init : Room := { frames := 4, cells := 0, slots := 0, locals := 89 }
theorem cdX10_init : yX10_init.cls ≠ "java/lang/invoke/MethodHandle" ∧ yX10_init.cls ≠ "java/lang/invoke/VarHandle" ∧ (parseMethodDescriptor yX10_init.desc).map (fun d => d.parameters.length) = some 5 := by decide +kernel
set_option maxHeartbeats 4000000 in
set_option maxRecDepth 100000 in
theorem mvX10_init (l : Launch) {D : va_G} {cA : Nat → ClassId} {A : Nat → Prop} (a0 : Nat) (a1 : Nat) (a2 : Int32) (a3 : Int32) (a4 : Int32) (a5 : Int32) (V : VS) (Post : VS → Prop) (h : vX10_init cA a0 a1 a2 a3 a4 a5 V Post) : Met l yX10_init (ws_ yX10_init cX10_init 6 none) rX10_init (vPc [.ref a0, .ref a1, .int a2, .int a3, .int a4, .int a5] D cA A V) (va_Qv Post (vB D A) A) 0 0 A := by
  refine vstM (own := RX10) (by decide) rfl (Nat.le_of_ble_eq_true rfl) ?_
  intro p e s m args below meth c ls X hret hV hS hl
  obtain ⟨S, hK, hG, hA, hnm, hlocks⟩ := X
  have hx := S.1
  have hb := S.2.1
  have hl : lv_has ls 6 [(0, .ref a0), (1, .ref a1), (2, .int a2), (3, .int a3), (4, .int a4), (5, .int a5)] := hl
  unfold vX10_init at h
  refine lv_aload_n hx hb dX10_init_0 rfl (lv_at hl 0 rfl) ?_
  refine lv_aload_n hx hb dX10_init_1 rfl (lv_at hl 1 rfl) ?_
  refine lv_iload_n hx hb dX10_init_2 rfl (lv_at hl 2 rfl) ?_
  refine lv_iload_n hx hb dX10_init_3 rfl (lv_at hl 3 rfl) ?_
  refine lv_iload hx hb dX10_init_4 (lv_at hl 4 rfl) ?_
  refine lv_iload hx hb dX10_init_6 (lv_at hl 5 rfl) ?_
  refine vk_v (vr_I (As := [.ref a1, .int a2, .int a3, .int a4, .int a5]) (rest := []) S hK hG hA hV hS (mvX8_init l a0 a1 a2 a3 a4 a5 V _ h) (cwI 5 S.2.2.2.2 (lw_meth q783) rfl rfl rfl (S.2.2.2.2 _ q161) (S.2.2.2.2 _ q834) (S.2.2.2.2 _ q782) rfl cdX8_init ⟨Nat.le_of_ble_eq_true rfl, Nat.le_of_ble_eq_true rfl⟩) rfl hl.1 (Nat.le_of_ble_eq_true rfl) dX10_init_8 ⟨Nat.le_refl _, Nat.le_refl _⟩) hS (fun V_2 H locs h hV hS => ?_)
  exact ve_v S hlocks hret hV hS h (Nat.le_refl _) (Nat.le_refl _) dX10_init_11
def vX1_say_c153 (cA : Nat → ClassId) (a0 : Nat) (a1 : Int32) (a2 : Int32) (a3 : Int32) (a4 : Int32) (a5 : Int32) (MC MS : Nat) (Post : Int32 → VS → Prop) (t0 : Nat) (t1 : Option Nat) (V : VS) (kc ks : Nat) : Prop := bO t1 (fun n_77 => bO (vO V [14] n_77) (fun o_80 => vJ2_add cA n_77 t0 V (fun r_78 V_79 => bO (gI V_79 [1] a0 6) (fun g_82 => bO (pF V_79 [1] a0 6 (.int (g_82 + (1 : Int32)))) (fun V_84 => bO (gR V_84 [1] a0 11) (fun p_86 => bO p_86 (fun n_88 => bO (gR V_84 [3] n_88 2) (fun p_89 => bO p_89 (fun n_91 => bO (vO V_84 [14] n_91) (fun o_94 => vJ2_size cA n_91 V_84 (fun r_92 V_93 => Post (r_92 - (1 : Int32)) V_93)))))))))))
def vX1_say_c77 (cA : Nat → ClassId) (a0 : Nat) (a1 : Int32) (a2 : Int32) (a3 : Int32) (a4 : Int32) (a5 : Int32) (MC MS : Nat) (Post : Int32 → VS → Prop) (t0 : Int32) (t1 : Int32) (V : VS) (kc ks : Nat) : Prop := bO (gR V [1] a0 11) (fun p_47 => bO p_47 (fun n_49 => bO (gR V [3] n_49 0) (fun p_50 => bO p_50 (fun n_52 => bO (vO V [14] n_52) (fun o_55 => vJ2_get cA n_52 a4 V (fun p_53 V_54 => bO p_53 (fun n_57 => bO (vO V_54 [5] n_57) (fun o_58 => bO (gI V_54 [5] n_57 1) (fun g_60 => w1_in t1 t0 (g_60 - (1 : Int32)) (fun r_62 => (r_62 = 0 → (Post (-1 : Int32) V_54)) ∧ (¬ (r_62 = 0) → (bO (gR V_54 [1] a0 11) (fun p_64 => bO p_64 (fun n_66 => bO (gR V_54 [3] n_66 2) (fun p_67 => (a1 = 0 → ((kc + 1 ≤ MC ∧ ks + 6 ≤ MS ∧ ∀ (q_70 : Nat) (V_71 : VS), V_54 q_70 = none → V_71 = vU V_54 q_70 (.inr (8, [.null, .null, .int 0, .int 0, .int 0, .int 0])) → bO (gR V_71 [1] a0 11) (fun p_72 => bO p_72 (fun n_74 => vX10_init cA q_70 n_74 a2 a3 a4 a5 V_71 (fun V_76 => vX1_say_c153 cA a0 a1 a2 a3 a4 a5 MC MS Post q_70 p_67 V_76 (kc + 1) (ks + 6))))))) ∧ (¬ (a1 = 0) → ((kc + 1 ≤ MC ∧ ks + 6 ≤ MS ∧ ∀ (q_96 : Nat) (V_97 : VS), V_54 q_96 = none → V_97 = vU V_54 q_96 (.inr (7, [.null, .null, .int 0, .int 0, .int 0, .int 0])) → bO (gR V_97 [1] a0 11) (fun p_98 => bO p_98 (fun n_100 => vX9_init cA q_96 n_100 a2 a3 a4 a5 V_97 (fun V_102 => vX1_say_c153 cA a0 a1 a2 a3 a4 a5 MC MS Post q_96 p_67 V_102 (kc + 1) (ks + 6))))))))))))))))))))))
def vX1_say (cA : Nat → ClassId) (a0 : Nat) (a1 : Int32) (a2 : Int32) (a3 : Int32) (a4 : Int32) (a5 : Int32) (V : VS) (MC MS : Nat) (Post : Int32 → VS → Prop) : Prop := bO (vO V [1] a0) (fun o_3 => vX1_isTeller cA a0 a2 V (fun r_1 V_2 => (r_1 = 0 → (Post (-1 : Int32) V_2)) ∧ (¬ (r_1 = 0) → (bO (vO V_2 [1] a0) (fun o_8 => vX1_isThing cA a0 a4 V_2 (fun r_6 V_7 => (r_6 = 0 → (Post (-1 : Int32) V_7)) ∧ (¬ (r_6 = 0) → (bO (gR V_7 [1] a0 11) (fun p_11 => bO p_11 (fun n_13 => bO (gR V_7 [3] n_13 2) (fun p_14 => bO p_14 (fun n_16 => bO (vO V_7 [14] n_16) (fun o_19 => vJ2_size cA n_16 V_7 (fun r_17 V_18 => (r_17 = (60 : Int32) → (Post (-1 : Int32) V_18)) ∧ (¬ (r_17 = (60 : Int32)) → (bO (gR V_18 [1] a0 11) (fun p_22 => bO p_22 (fun n_24 => bO (vO V_18 [3] n_24) (fun o_27 => vX3_latest cA n_24 a2 V_18 (fun r_25 V_26 => bO (gR V_26 [1] a0 11) (fun p_29 => bO p_29 (fun n_31 => bO (gR V_26 [3] n_31 1) (fun p_32 => bO p_32 (fun n_34 => bO (vO V_26 [14] n_34) (fun o_37 => vJ2_get cA n_34 a2 V_26 (fun p_35 V_36 => bO p_35 (fun n_39 => bO (vO V_36 [6] n_39) (fun o_40 => bO (gI V_36 [6] n_39 3) (fun g_42 => w1_in a3 r_25 g_42 (fun r_44 => (r_44 = 0 → (Post (-1 : Int32) V_36)) ∧ (¬ (r_44 = 0) → ((a1 = 0 → (vX1_say_c77 cA a0 a1 a2 a3 a4 a5 MC MS Post (-1 : Int32) a5 V_36 0 0)) ∧ (¬ (a1 = 0) → (vX1_say_c77 cA a0 a1 a2 a3 a4 a5 MC MS Post (0 : Int32) a5 V_36 0 0))))))))))))))))))))))))))))))))))
abbrev rX1_say (MC MS : Nat) : Room := { frames := 5, cells := MC, slots := MS, locals := 114 }
theorem cdX1_say : yX1_say.cls = RX1 ∧ yX1_say.cls ≠ "java/lang/invoke/MethodHandle" ∧ yX1_say.cls ≠ "java/lang/invoke/VarHandle" ∧ (parseMethodDescriptor yX1_say.desc).map (fun d => d.parameters.length) = some 5 := by decide +kernel
set_option maxHeartbeats 4000000 in
set_option maxRecDepth 100000 in
theorem mvX1_say (l : Launch) {D : va_G} {cA : Nat → ClassId} {A : Nat → Prop} (a0 : Nat) (a1 : Int32) (a2 : Int32) (a3 : Int32) (a4 : Int32) (a5 : Int32) (V : VS) (MC MS : Nat) (Post : Int32 → VS → Prop) (h : vX1_say cA a0 a1 a2 a3 a4 a5 V MC MS Post) : Met l yX1_say (ws_ yX1_say cX1_say 6 (some (.int))) (rX1_say MC MS) (vPc [.ref a0, .int a1, .int a2, .int a3, .int a4, .int a5] D cA A V) (va_Qi Post (vB D A) A) MC MS A := by
  refine vstM (own := RX1) (by decide) rfl (Nat.le_of_ble_eq_true rfl) ?_
  intro p e s m args below meth c ls X hret hV hS hl
  obtain ⟨S, hK, hG, hA, hnm, hlocks⟩ := X
  have hx := S.1
  have hb := S.2.1
  have hk : 0 ≤ MC ∧ 0 ≤ MS := ⟨Nat.zero_le _, Nat.zero_le _⟩
  have hl : lv_has ls 6 [(0, .ref a0), (1, .int a1), (2, .int a2), (3, .int a3), (4, .int a4), (5, .int a5)] := hl
  have C153 : ∀ (t0 : Nat) (t1 : Option Nat) (V : VS) (kc ks : Nat) (H : Heap) (locs : List Loc) (ls : Array Slot), HV D A V H → va_S A s.heap H locs → (kc ≤ MC ∧ ks ≤ MS) → lv_has ls 6 [(0, .ref a0), (1, .int a1), (2, .int a2), (3, .int a3), (4, .int a4), (5, .int a5)] → vX1_say_c153 cA a0 a1 a2 a3 a4 a5 MC MS Post t0 t1 V kc ks → W p l e (rX1_say MC MS) s m args below meth c H locs kc ks (MQ below (va_Qi Post (vB D A) A) args s MC MS A) (F0 m 153 ls [.ref t0, va_rf t1]) := by
    intro t0 t1 V kc ks H locs ls hV hS hk hl h
    unfold vX1_say_c153 at h
    obtain ⟨n_77, z_n_77, h9⟩ := bO_e h
    clear h; subst z_n_77; have h := h9; clear h9
    obtain ⟨o_80, e_81, h⟩ := bO_e h
    refine vk_i (vr_V (As := [.ref t0]) (rest := []) S hK hG hA hV hS e_81 rfl (mvJ2_add l n_77 t0 V _ h) (cwV 1 S.2.2.2.2 (lw_V q1006 q665 q666 q144 q667) rfl rfl rfl cdJ2_add ⟨Nat.le_of_ble_eq_true rfl, Nat.le_of_ble_eq_true rfl⟩) rfl hl.1 (Nat.le_of_ble_eq_true rfl) dX1_say_153 ⟨hk.1, hk.2⟩) hS (fun r_78 V_79 H locs h hV hS => ?_)
    refine lv_pop hx hb dX1_say_156 rfl ?_
    refine lv_aload_n hx hb dX1_say_157 rfl (lv_at hl 0 rfl) ?_
    refine lv_dup hx hb dX1_say_158 rfl ?_
    obtain ⟨g_82, e_83, h⟩ := bO_e h
    refine vg_i S hK hV fX1_102 e_83 dX1_say_159 ?_
    refine lv_iconst hx hb dX1_say_162 kc_1 ?_
    refine lv_iadd hx hb dX1_say_163 ?_
    obtain ⟨V_84, e_85, h⟩ := bO_e h
    refine vp_v (v := .int (g_82 + (1 : Int32))) S hK hV hS fX1_102 (Or.inl rfl) rfl rfl e_85 dX1_say_164 (fun H locs hV hS => ?_)
    refine lv_aload_n hx hb dX1_say_167 rfl (lv_at hl 0 rfl) ?_
    obtain ⟨p_86, e_87, h⟩ := bO_e h
    refine vg_r S hK hV fX1_49 e_87 dX1_say_168 ?_
    obtain ⟨n_88, z_n_88, h9⟩ := bO_e h
    clear h; subst z_n_88; have h := h9; clear h9
    obtain ⟨p_89, e_90, h⟩ := bO_e h
    refine vg_r S hK hV fX1_173 e_90 dX1_say_171 ?_
    obtain ⟨n_91, z_n_91, h9⟩ := bO_e h
    clear h; subst z_n_91; have h := h9; clear h9
    obtain ⟨o_94, e_95, h⟩ := bO_e h
    refine vk_i (vr_V (As := []) (rest := []) S hK hG hA hV hS e_95 rfl (mvJ2_size l n_91 V_84 _ h) (cwV 0 S.2.2.2.2 (lw_V q972 q591 q592 q144 q593) rfl rfl rfl cdJ2_size ⟨Nat.le_of_ble_eq_true rfl, Nat.le_of_ble_eq_true rfl⟩) rfl hl.1 (Nat.le_of_ble_eq_true rfl) dX1_say_174 ⟨hk.1, hk.2⟩) hS (fun r_92 V_93 H locs h hV hS => ?_)
    refine lv_iconst hx hb dX1_say_177 kc_1 ?_
    refine lv_isub hx hb dX1_say_178 ?_
    exact ve_i S hlocks hret hV hS h rfl hk.1 hk.2 dX1_say_179
  have C77 : ∀ (t0 : Int32) (t1 : Int32) (V : VS) (kc ks : Nat) (H : Heap) (locs : List Loc) (ls : Array Slot), HV D A V H → va_S A s.heap H locs → (kc ≤ MC ∧ ks ≤ MS) → lv_has ls 6 [(0, .ref a0), (1, .int a1), (2, .int a2), (3, .int a3), (4, .int a4), (5, .int a5)] → vX1_say_c77 cA a0 a1 a2 a3 a4 a5 MC MS Post t0 t1 V kc ks → W p l e (rX1_say MC MS) s m args below meth c H locs kc ks (MQ below (va_Qi Post (vB D A) A) args s MC MS A) (F0 m 77 ls [.int t0, .int t1]) := by
    intro t0 t1 V kc ks H locs ls hV hS hk hl h
    unfold vX1_say_c77 at h
    refine lv_aload_n hx hb dX1_say_77 rfl (lv_at hl 0 rfl) ?_
    obtain ⟨p_47, e_48, h⟩ := bO_e h
    refine vg_r S hK hV fX1_49 e_48 dX1_say_78 ?_
    obtain ⟨n_49, z_n_49, h9⟩ := bO_e h
    clear h; subst z_n_49; have h := h9; clear h9
    obtain ⟨p_50, e_51, h⟩ := bO_e h
    refine vg_r S hK hV fX1_125 e_51 dX1_say_81 ?_
    refine lv_iload hx hb dX1_say_84 (lv_at hl 4 rfl) ?_
    obtain ⟨n_52, z_n_52, h9⟩ := bO_e h
    clear h; subst z_n_52; have h := h9; clear h9
    obtain ⟨o_55, e_56, h⟩ := bO_e h
    refine vk_q (vr_V (As := [.int a4]) (rest := [.int t0, .int t1]) S hK hG hA hV hS e_56 rfl (mvJ2_get l n_52 a4 V _ h) (cwV 1 S.2.2.2.2 (lw_V q973 q608 q609 q144 q610) rfl rfl rfl cdJ2_get ⟨Nat.le_of_ble_eq_true rfl, Nat.le_of_ble_eq_true rfl⟩) rfl hl.1 (Nat.le_of_ble_eq_true rfl) dX1_say_86 ⟨hk.1, hk.2⟩) hS (fun p_53 V_54 H locs h hV hS => ?_)
    obtain ⟨n_57, z_n_57, h9⟩ := bO_e h
    clear h; subst z_n_57; have h := h9; clear h9
    obtain ⟨o_58, e_59, h⟩ := bO_e h
    refine v_cast S hK hV e_59 ct_SaidSo_Thing q1001 dX1_say_89 ?_
    obtain ⟨g_60, e_61, h⟩ := bO_e h
    refine vg_i S hK hV fX1_141 e_61 dX1_say_92 ?_
    refine lv_iconst hx hb dX1_say_95 kc_1 ?_
    refine lv_isub hx hb dX1_say_96 ?_
    refine sc_i S (As := [.int t1, .int t0, .int (g_60 - (1 : Int32))]) (rest := []) (mt1_in l t1 t0 (g_60 - (1 : Int32)) _ h) (va_cwS 3 S.2.2.2.2 (lw_S q367 q368 q139 q369) rfl rfl rfl cdX1_in ⟨Nat.le_of_ble_eq_true rfl, Nat.le_of_ble_eq_true rfl⟩) rfl rfl hl.1 (Nat.le_of_ble_eq_true rfl) dX1_say_97 ⟨hk.1, hk.2⟩ (fun r_62 h => ?_)
    refine lv_if_ne (tgt := 105) hx hb dX1_say_100 (by decide) (fun c_63 => ?_) (fun c_63 => ?_)
    · replace h := h.2 c_63
      refine lv_aload_n hx hb dX1_say_105 rfl (lv_at hl 0 rfl) ?_
      obtain ⟨p_64, e_65, h⟩ := bO_e h
      refine vg_r S hK hV fX1_49 e_65 dX1_say_106 ?_
      obtain ⟨n_66, z_n_66, h9⟩ := bO_e h
      clear h; subst z_n_66; have h := h9; clear h9
      obtain ⟨p_67, e_68, h⟩ := bO_e h
      refine vg_r S hK hV fX1_173 e_68 dX1_say_109 ?_
      refine lv_iload_n hx hb dX1_say_112 rfl (lv_at hl 1 rfl) ?_
      refine lv_if_eq (tgt := 136) hx hb dX1_say_113 (by decide) (fun c_69 => ?_) (fun c_69 => ?_)
      · replace h := h.1 c_69
        obtain ⟨hc1, hc2, h⟩ := h
        refine vw_new (ci := 8) (fs := [.null, .null, .int 0, .int 0, .int 0, .int 0]) (C := RX10) (T := TX10) (N := 6) S hK hV hS hA in_X10 tyX10 tyX10_ok q1004 q830 q163 rfl (fun j hj => by first | (rcases j with _ | _ | _ | _ | _ | _ | _ | _ | _ | _ | _ | _ | _ | _ | _ | _ | _ | _ | _ | _ | _ | j <;> first | rfl | omega)) hc1 hc2 dX1_say_136 (fun q_70 V_71 H g1 g2 hV hS => ?_)
        replace h := h q_70 V_71 g1 g2
        have hk : kc + 1 ≤ MC ∧ ks + 6 ≤ MS := ⟨hc1, hc2⟩
        refine lv_dup hx hb dX1_say_139 rfl ?_
        refine lv_aload_n hx hb dX1_say_140 rfl (lv_at hl 0 rfl) ?_
        obtain ⟨p_72, e_73, h⟩ := bO_e h
        refine vg_r S hK hV fX1_49 e_73 dX1_say_141 ?_
        refine lv_iload_n hx hb dX1_say_144 rfl (lv_at hl 2 rfl) ?_
        refine lv_iload_n hx hb dX1_say_145 rfl (lv_at hl 3 rfl) ?_
        refine lv_iload hx hb dX1_say_146 (lv_at hl 4 rfl) ?_
        refine lv_iload hx hb dX1_say_148 (lv_at hl 5 rfl) ?_
        obtain ⟨n_74, z_n_74, h9⟩ := bO_e h
        clear h; subst z_n_74; have h := h9; clear h9
        refine vk_v (vr_I (As := [.ref n_74, .int a2, .int a3, .int a4, .int a5]) (rest := [.ref q_70, va_rf p_67]) S hK hG hA hV hS (mvX10_init l q_70 n_74 a2 a3 a4 a5 V_71 _ h) (cwI 5 S.2.2.2.2 (lw_meth q833) rfl rfl rfl (S.2.2.2.2 _ q163) (S.2.2.2.2 _ q1005) (S.2.2.2.2 _ q832) rfl cdX10_init ⟨Nat.le_of_ble_eq_true rfl, Nat.le_of_ble_eq_true rfl⟩) rfl hl.1 (by cases p_67 <;> exact Nat.le_of_ble_eq_true rfl) dX1_say_150 ⟨hk.1, hk.2⟩) hS (fun V_76 H locs h hV hS => ?_)
        exact C153 _ _ _ _ _ _ _ _ hV hS hk (lv_sub hl [0, 1, 2, 3, 4, 5] rfl) h
      · replace h := h.2 c_69
        obtain ⟨hc1, hc2, h⟩ := h
        refine vw_new (ci := 7) (fs := [.null, .null, .int 0, .int 0, .int 0, .int 0]) (C := RX9) (T := TX9) (N := 6) S hK hV hS hA in_X9 tyX9 tyX9_ok q1002 q777 q162 rfl (fun j hj => by first | (rcases j with _ | _ | _ | _ | _ | _ | _ | _ | _ | _ | _ | _ | _ | _ | _ | _ | _ | _ | _ | _ | _ | j <;> first | rfl | omega)) hc1 hc2 dX1_say_116 (fun q_96 V_97 H g1 g2 hV hS => ?_)
        replace h := h q_96 V_97 g1 g2
        have hk : kc + 1 ≤ MC ∧ ks + 6 ≤ MS := ⟨hc1, hc2⟩
        refine lv_dup hx hb dX1_say_119 rfl ?_
        refine lv_aload_n hx hb dX1_say_120 rfl (lv_at hl 0 rfl) ?_
        obtain ⟨p_98, e_99, h⟩ := bO_e h
        refine vg_r S hK hV fX1_49 e_99 dX1_say_121 ?_
        refine lv_iload_n hx hb dX1_say_124 rfl (lv_at hl 2 rfl) ?_
        refine lv_iload_n hx hb dX1_say_125 rfl (lv_at hl 3 rfl) ?_
        refine lv_iload hx hb dX1_say_126 (lv_at hl 4 rfl) ?_
        refine lv_iload hx hb dX1_say_128 (lv_at hl 5 rfl) ?_
        obtain ⟨n_100, z_n_100, h9⟩ := bO_e h
        clear h; subst z_n_100; have h := h9; clear h9
        refine vk_v (vr_I (As := [.ref n_100, .int a2, .int a3, .int a4, .int a5]) (rest := [.ref q_96, va_rf p_67]) S hK hG hA hV hS (mvX9_init l q_96 n_100 a2 a3 a4 a5 V_97 _ h) (cwI 5 S.2.2.2.2 (lw_meth q780) rfl rfl rfl (S.2.2.2.2 _ q162) (S.2.2.2.2 _ q1003) (S.2.2.2.2 _ q779) rfl cdX9_init ⟨Nat.le_of_ble_eq_true rfl, Nat.le_of_ble_eq_true rfl⟩) rfl hl.1 (by cases p_67 <;> exact Nat.le_of_ble_eq_true rfl) dX1_say_130 ⟨hk.1, hk.2⟩) hS (fun V_102 H locs h hV hS => ?_)
        refine lv_goto (tgt := 153) hx hb dX1_say_133 (by decide) ?_
        exact C153 _ _ _ _ _ _ _ _ hV hS hk (lv_sub hl [0, 1, 2, 3, 4, 5] rfl) h
    · replace h := h.1 c_63
      refine lv_iconst hx hb dX1_say_103 kc_m1 ?_
      exact ve_i S hlocks hret hV hS h rfl hk.1 hk.2 dX1_say_104
  unfold vX1_say at h
  refine lv_aload_n hx hb dX1_say_0 rfl (lv_at hl 0 rfl) ?_
  refine lv_iload_n hx hb dX1_say_1 rfl (lv_at hl 2 rfl) ?_
  obtain ⟨o_3, e_4, h⟩ := bO_e h
  refine vk_i (vr_V (As := [.int a2]) (rest := []) S hK hG hA hV hS e_4 rfl (mvX1_isTeller l a0 a2 V _ h) (cwV 1 S.2.2.2.2 (lw_V q968 q970 qs31 q139 q971) rfl rfl rfl cdX1_isTeller ⟨Nat.le_of_ble_eq_true rfl, Nat.le_of_ble_eq_true rfl⟩) rfl hl.1 (Nat.le_of_ble_eq_true rfl) dX1_say_2 ⟨hk.1, hk.2⟩) hS (fun r_1 V_2 H locs h hV hS => ?_)
  refine lv_if_eq (tgt := 64) hx hb dX1_say_5 (by decide) (fun c_5 => ?_) (fun c_5 => ?_)
  · replace h := h.1 c_5
    refine lv_iconst hx hb dX1_say_64 kc_m1 ?_
    exact ve_i S hlocks hret hV hS h rfl hk.1 hk.2 dX1_say_65
  · replace h := h.2 c_5
    refine lv_aload_n hx hb dX1_say_8 rfl (lv_at hl 0 rfl) ?_
    refine lv_iload hx hb dX1_say_9 (lv_at hl 4 rfl) ?_
    obtain ⟨o_8, e_9, h⟩ := bO_e h
    refine vk_i (vr_V (As := [.int a4]) (rest := []) S hK hG hA hV hS e_9 rfl (mvX1_isThing l a0 a4 V_2 _ h) (cwV 1 S.2.2.2.2 (lw_V q996 q998 qs33 q139 q999) rfl rfl rfl cdX1_isThing ⟨Nat.le_of_ble_eq_true rfl, Nat.le_of_ble_eq_true rfl⟩) rfl hl.1 (Nat.le_of_ble_eq_true rfl) dX1_say_11 ⟨hk.1, hk.2⟩) hS (fun r_6 V_7 H locs h hV hS => ?_)
    refine lv_if_eq (tgt := 64) hx hb dX1_say_14 (by decide) (fun c_10 => ?_) (fun c_10 => ?_)
    · replace h := h.1 c_10
      refine lv_iconst hx hb dX1_say_64 kc_m1 ?_
      exact ve_i S hlocks hret hV hS h rfl hk.1 hk.2 dX1_say_65
    · replace h := h.2 c_10
      refine lv_aload_n hx hb dX1_say_17 rfl (lv_at hl 0 rfl) ?_
      obtain ⟨p_11, e_12, h⟩ := bO_e h
      refine vg_r S hK hV fX1_49 e_12 dX1_say_18 ?_
      obtain ⟨n_13, z_n_13, h9⟩ := bO_e h
      clear h; subst z_n_13; have h := h9; clear h9
      obtain ⟨p_14, e_15, h⟩ := bO_e h
      refine vg_r S hK hV fX1_173 e_15 dX1_say_21 ?_
      obtain ⟨n_16, z_n_16, h9⟩ := bO_e h
      clear h; subst z_n_16; have h := h9; clear h9
      obtain ⟨o_19, e_20, h⟩ := bO_e h
      refine vk_i (vr_V (As := []) (rest := []) S hK hG hA hV hS e_20 rfl (mvJ2_size l n_16 V_7 _ h) (cwV 0 S.2.2.2.2 (lw_V q972 q591 q592 q144 q593) rfl rfl rfl cdJ2_size ⟨Nat.le_of_ble_eq_true rfl, Nat.le_of_ble_eq_true rfl⟩) rfl hl.1 (Nat.le_of_ble_eq_true rfl) dX1_say_24 ⟨hk.1, hk.2⟩) hS (fun r_17 V_18 H locs h hV hS => ?_)
      refine lv_bipush hx hb dX1_say_27 kb_60 ?_
      refine lv_icmp_eq (tgt := 64) hx hb dX1_say_29 (by decide) (fun c_21 => ?_) (fun c_21 => ?_)
      · replace h := h.1 c_21
        refine lv_iconst hx hb dX1_say_64 kc_m1 ?_
        exact ve_i S hlocks hret hV hS h rfl hk.1 hk.2 dX1_say_65
      · replace h := h.2 c_21
        refine lv_iload_n hx hb dX1_say_32 rfl (lv_at hl 3 rfl) ?_
        refine lv_aload_n hx hb dX1_say_33 rfl (lv_at hl 0 rfl) ?_
        obtain ⟨p_22, e_23, h⟩ := bO_e h
        refine vg_r S hK hV fX1_49 e_23 dX1_say_34 ?_
        refine lv_iload_n hx hb dX1_say_37 rfl (lv_at hl 2 rfl) ?_
        obtain ⟨n_24, z_n_24, h9⟩ := bO_e h
        clear h; subst z_n_24; have h := h9; clear h9
        obtain ⟨o_27, e_28, h⟩ := bO_e h
        refine vk_i (vr_V (As := [.int a2]) (rest := [.int a3]) S hK hG hA hV hS e_28 rfl (mvX3_latest l n_24 a2 V_18 _ h) (cwV 1 S.2.2.2.2 (lw_V q1000 q772 q773 q141 q774) rfl rfl rfl cdX3_latest ⟨Nat.le_of_ble_eq_true rfl, Nat.le_of_ble_eq_true rfl⟩) rfl hl.1 (Nat.le_of_ble_eq_true rfl) dX1_say_38 ⟨hk.1, hk.2⟩) hS (fun r_25 V_26 H locs h hV hS => ?_)
        refine lv_aload_n hx hb dX1_say_41 rfl (lv_at hl 0 rfl) ?_
        obtain ⟨p_29, e_30, h⟩ := bO_e h
        refine vg_r S hK hV fX1_49 e_30 dX1_say_42 ?_
        obtain ⟨n_31, z_n_31, h9⟩ := bO_e h
        clear h; subst z_n_31; have h := h9; clear h9
        obtain ⟨p_32, e_33, h⟩ := bO_e h
        refine vg_r S hK hV fX1_115 e_33 dX1_say_45 ?_
        refine lv_iload_n hx hb dX1_say_48 rfl (lv_at hl 2 rfl) ?_
        obtain ⟨n_34, z_n_34, h9⟩ := bO_e h
        clear h; subst z_n_34; have h := h9; clear h9
        obtain ⟨o_37, e_38, h⟩ := bO_e h
        refine vk_q (vr_V (As := [.int a2]) (rest := [.int r_25, .int a3]) S hK hG hA hV hS e_38 rfl (mvJ2_get l n_34 a2 V_26 _ h) (cwV 1 S.2.2.2.2 (lw_V q973 q608 q609 q144 q610) rfl rfl rfl cdJ2_get ⟨Nat.le_of_ble_eq_true rfl, Nat.le_of_ble_eq_true rfl⟩) rfl hl.1 (Nat.le_of_ble_eq_true rfl) dX1_say_49 ⟨hk.1, hk.2⟩) hS (fun p_35 V_36 H locs h hV hS => ?_)
        obtain ⟨n_39, z_n_39, h9⟩ := bO_e h
        clear h; subst z_n_39; have h := h9; clear h9
        obtain ⟨o_40, e_41, h⟩ := bO_e h
        refine v_cast S hK hV e_41 ct_SaidSo_Teller q974 dX1_say_52 ?_
        obtain ⟨g_42, e_43, h⟩ := bO_e h
        refine vg_i S hK hV fX1_167 e_43 dX1_say_55 ?_
        refine sc_i S (As := [.int a3, .int r_25, .int g_42]) (rest := []) (mt1_in l a3 r_25 g_42 _ h) (va_cwS 3 S.2.2.2.2 (lw_S q367 q368 q139 q369) rfl rfl rfl cdX1_in ⟨Nat.le_of_ble_eq_true rfl, Nat.le_of_ble_eq_true rfl⟩) rfl rfl hl.1 (Nat.le_of_ble_eq_true rfl) dX1_say_58 ⟨hk.1, hk.2⟩ (fun r_44 h => ?_)
        refine lv_if_ne (tgt := 66) hx hb dX1_say_61 (by decide) (fun c_45 => ?_) (fun c_45 => ?_)
        · replace h := h.2 c_45
          refine lv_iload hx hb dX1_say_66 (lv_at hl 5 rfl) ?_
          refine lv_iload_n hx hb dX1_say_68 rfl (lv_at hl 1 rfl) ?_
          refine lv_if_eq (tgt := 76) hx hb dX1_say_69 (by decide) (fun c_46 => ?_) (fun c_46 => ?_)
          · replace h := h.1 c_46
            refine lv_iconst hx hb dX1_say_76 kc_m1 ?_
            exact C77 _ _ _ _ _ _ _ _ hV hS hk (lv_sub hl [0, 1, 2, 3, 4, 5] rfl) h
          · replace h := h.2 c_46
            refine lv_iconst hx hb dX1_say_72 kc_0 ?_
            refine lv_goto (tgt := 77) hx hb dX1_say_73 (by decide) ?_
            exact C77 _ _ _ _ _ _ _ _ hV hS hk (lv_sub hl [0, 1, 2, 3, 4, 5] rfl) h
        · replace h := h.1 c_45
          refine lv_iconst hx hb dX1_say_64 kc_m1 ?_
          exact ve_i S hlocks hret hV hS h rfl hk.1 hk.2 dX1_say_65
def vX1_undo (cA : Nat → ClassId) (a0 : Nat) (V : VS) (Post : Int32 → VS → Prop) : Prop := bO (gI V [1] a0 6) (fun g_1 => (g_1 = 0 → (Post (-1 : Int32) V)) ∧ (¬ (g_1 = 0) → (bO (gR V [1] a0 11) (fun p_4 => bO p_4 (fun n_6 => bO (gR V [3] n_6 2) (fun p_7 => bO (gR V [1] a0 11) (fun p_9 => bO p_9 (fun n_11 => bO (gR V [3] n_11 2) (fun p_12 => bO p_12 (fun n_14 => bO (vO V [14] n_14) (fun o_17 => vJ2_size cA n_14 V (fun r_15 V_16 => bO p_7 (fun n_19 => bO (vO V_16 [14] n_19) (fun o_22 => vJ2_remove cA n_19 (r_15 - (1 : Int32)) V_16 (fun p_20 V_21 => bO (gI V_21 [1] a0 6) (fun g_24 => bO (pF V_21 [1] a0 6 (.int (g_24 - (1 : Int32)))) (fun V_26 => bO (gI V_26 [1] a0 6) (fun g_28 => Post g_28 V_26))))))))))))))))))
abbrev rX1_undo : Room := { frames := 3, cells := 0, slots := 0, locals := 66 }
theorem cdX1_undo : yX1_undo.cls = RX1 ∧ yX1_undo.cls ≠ "java/lang/invoke/MethodHandle" ∧ yX1_undo.cls ≠ "java/lang/invoke/VarHandle" ∧ (parseMethodDescriptor yX1_undo.desc).map (fun d => d.parameters.length) = some 0 := by decide +kernel
set_option maxHeartbeats 4000000 in
set_option maxRecDepth 100000 in
theorem mvX1_undo (l : Launch) {D : va_G} {cA : Nat → ClassId} {A : Nat → Prop} (a0 : Nat) (V : VS) (Post : Int32 → VS → Prop) (h : vX1_undo cA a0 V Post) : Met l yX1_undo (ws_ yX1_undo cX1_undo 1 (some (.int))) rX1_undo (vPc [.ref a0] D cA A V) (va_Qi Post (vB D A) A) 0 0 A := by
  refine vstM (own := RX1) (by decide) rfl (Nat.le_of_ble_eq_true rfl) ?_
  intro p e s m args below meth c ls X hret hV hS hl
  obtain ⟨S, hK, hG, hA, hnm, hlocks⟩ := X
  have hx := S.1
  have hb := S.2.1
  have hl : lv_has ls 1 [(0, .ref a0)] := hl
  unfold vX1_undo at h
  refine lv_aload_n hx hb dX1_undo_0 rfl (lv_at hl 0 rfl) ?_
  obtain ⟨g_1, e_2, h⟩ := bO_e h
  refine vg_i S hK hV fX1_102 e_2 dX1_undo_1 ?_
  refine lv_if_ne (tgt := 9) hx hb dX1_undo_4 (by decide) (fun c_3 => ?_) (fun c_3 => ?_)
  · replace h := h.2 c_3
    refine lv_aload_n hx hb dX1_undo_9 rfl (lv_at hl 0 rfl) ?_
    obtain ⟨p_4, e_5, h⟩ := bO_e h
    refine vg_r S hK hV fX1_49 e_5 dX1_undo_10 ?_
    obtain ⟨n_6, z_n_6, h9⟩ := bO_e h
    clear h; subst z_n_6; have h := h9; clear h9
    obtain ⟨p_7, e_8, h⟩ := bO_e h
    refine vg_r S hK hV fX1_173 e_8 dX1_undo_13 ?_
    refine lv_aload_n hx hb dX1_undo_16 rfl (lv_at hl 0 rfl) ?_
    obtain ⟨p_9, e_10, h⟩ := bO_e h
    refine vg_r S hK hV fX1_49 e_10 dX1_undo_17 ?_
    obtain ⟨n_11, z_n_11, h9⟩ := bO_e h
    clear h; subst z_n_11; have h := h9; clear h9
    obtain ⟨p_12, e_13, h⟩ := bO_e h
    refine vg_r S hK hV fX1_173 e_13 dX1_undo_20 ?_
    obtain ⟨n_14, z_n_14, h9⟩ := bO_e h
    clear h; subst z_n_14; have h := h9; clear h9
    obtain ⟨o_17, e_18, h⟩ := bO_e h
    refine vk_i (vr_V (As := []) (rest := [va_rf p_7]) S hK hG hA hV hS e_18 rfl (mvJ2_size l n_14 V _ h) (cwV 0 S.2.2.2.2 (lw_V q972 q591 q592 q144 q593) rfl rfl rfl cdJ2_size ⟨Nat.le_of_ble_eq_true rfl, Nat.le_of_ble_eq_true rfl⟩) rfl hl.1 (by cases p_7 <;> exact Nat.le_of_ble_eq_true rfl) dX1_undo_23 ⟨Nat.le_refl _, Nat.le_refl _⟩) hS (fun r_15 V_16 H locs h hV hS => ?_)
    refine lv_iconst hx hb dX1_undo_26 kc_1 ?_
    refine lv_isub hx hb dX1_undo_27 ?_
    obtain ⟨n_19, z_n_19, h9⟩ := bO_e h
    clear h; subst z_n_19; have h := h9; clear h9
    obtain ⟨o_22, e_23, h⟩ := bO_e h
    refine vk_q (vr_V (As := [.int (r_15 - (1 : Int32))]) (rest := []) S hK hG hA hV hS e_23 rfl (mvJ2_remove l n_19 (r_15 - (1 : Int32)) V_16 _ h) (cwV 1 S.2.2.2.2 (lw_V q1011 q1012 q1013 q144 q1014) rfl rfl rfl cdJ2_remove ⟨Nat.le_of_ble_eq_true rfl, Nat.le_of_ble_eq_true rfl⟩) rfl hl.1 (Nat.le_of_ble_eq_true rfl) dX1_undo_28 ⟨Nat.le_refl _, Nat.le_refl _⟩) hS (fun p_20 V_21 H locs h hV hS => ?_)
    refine lv_pop hx hb dX1_undo_31 (by cases p_20 <;> rfl) ?_
    refine lv_aload_n hx hb dX1_undo_32 rfl (lv_at hl 0 rfl) ?_
    refine lv_dup hx hb dX1_undo_33 rfl ?_
    obtain ⟨g_24, e_25, h⟩ := bO_e h
    refine vg_i S hK hV fX1_102 e_25 dX1_undo_34 ?_
    refine lv_iconst hx hb dX1_undo_37 kc_1 ?_
    refine lv_isub hx hb dX1_undo_38 ?_
    obtain ⟨V_26, e_27, h⟩ := bO_e h
    refine vp_v (v := .int (g_24 - (1 : Int32))) S hK hV hS fX1_102 (Or.inl rfl) rfl rfl e_27 dX1_undo_39 (fun H locs hV hS => ?_)
    refine lv_aload_n hx hb dX1_undo_42 rfl (lv_at hl 0 rfl) ?_
    obtain ⟨g_28, e_29, h⟩ := bO_e h
    refine vg_i S hK hV fX1_102 e_29 dX1_undo_43 ?_
    exact ve_i S hlocks hret hV hS h rfl (Nat.le_refl _) (Nat.le_refl _) dX1_undo_46
  · replace h := h.1 c_3
    refine lv_iconst hx hb dX1_undo_7 kc_m1 ?_
    exact ve_i S hlocks hret hV hS h rfl (Nat.le_refl _) (Nat.le_refl _) dX1_undo_8
def vX1_count_c111 (cA : Nat → ClassId) (a0 : Nat) (a1 : Int32) (k83 : Int32 → Int32 → VS → Prop) (Post : Int32 → VS → Prop) (x3 : Int32) (t0 : Int32) (t1 : Int32) (V : VS) : Prop := ∀ v_51 : Int32, v_51 = t1 + t0 → ∀ v_52 : Int32, v_52 = x3 + (1 : Int32) → k83 v_51 v_52 V
def vX1_count_l83 (cA : Nat → ClassId) (a0 : Nat) (a1 : Int32) (Post : Int32 → VS → Prop) : Nat → Int32 → Int32 → VS → Prop
  | 0, _, _, _ => False
  | n + 1, x2, x3, V => bO (gR V [1] a0 11) (fun p_35 => bO p_35 (fun n_37 => bO (gR V [3] n_37 2) (fun p_38 => bO p_38 (fun n_40 => bO (vO V [14] n_40) (fun o_43 => vJ2_size cA n_40 V (fun r_41 V_42 => (r_41 ≤ x3 → (Post x2 V_42)) ∧ (¬ (r_41 ≤ x3) → (bO (vO V_42 [1] a0) (fun o_48 => vX1_isHeard cA a0 x3 V_42 (fun r_46 V_47 => (r_46 = 0 → (vX1_count_c111 cA a0 a1 (vX1_count_l83 cA a0 a1 Post n) Post x3 (0 : Int32) x2 V_47)) ∧ (¬ (r_46 = 0) → (vX1_count_c111 cA a0 a1 (vX1_count_l83 cA a0 a1 Post n) Post x3 (1 : Int32) x2 V_47))))))))))))
def vX1_count (cA : Nat → ClassId) (a0 : Nat) (a1 : Int32) (V : VS) (Post : Int32 → VS → Prop) : Prop := (a1 = 0 → (bO (gR V [1] a0 11) (fun p_2 => bO p_2 (fun n_4 => bO (gR V [3] n_4 0) (fun p_5 => bO p_5 (fun n_7 => bO (vO V [14] n_7) (fun o_10 => vJ2_size cA n_7 V (fun r_8 V_9 => Post r_8 V_9)))))))) ∧ (¬ a1 = 0 → (a1 = 1 → (bO (gR V [1] a0 11) (fun p_13 => bO p_13 (fun n_15 => bO (gR V [3] n_15 1) (fun p_16 => bO p_16 (fun n_18 => bO (vO V [14] n_18) (fun o_21 => vJ2_size cA n_18 V (fun r_19 V_20 => Post r_19 V_20)))))))) ∧ (¬ a1 = 1 → (a1 = 2 → (bO (gR V [1] a0 11) (fun p_24 => bO p_24 (fun n_26 => bO (gR V [3] n_26 2) (fun p_27 => bO p_27 (fun n_29 => bO (vO V [14] n_29) (fun o_32 => vJ2_size cA n_29 V (fun r_30 V_31 => Post r_30 V_31)))))))) ∧ (¬ a1 = 2 → (a1 = 3 → (∃ f, vX1_count_l83 cA a0 a1 Post f (0 : Int32) (0 : Int32) V)) ∧ (¬ a1 = 3 → (a1 = 4 → (bO (gR V [1] a0 11) (fun p_54 => bO p_54 (fun n_56 => bO (gR V [3] n_56 3) (fun p_57 => bO p_57 (fun n_59 => bO (vO V [14] n_59) (fun o_62 => vJ2_size cA n_59 V (fun r_60 V_61 => Post r_60 V_61)))))))) ∧ (¬ a1 = 4 → (a1 = 5 → (bO (gR V [1] a0 11) (fun p_65 => bO p_65 (fun n_67 => bO (gI V [3] n_67 6) (fun g_68 => Post g_68 V))))) ∧ (¬ a1 = 5 → (a1 = 6 → (bO (gI V [1] a0 4) (fun g_71 => Post g_71 V))) ∧ (¬ a1 = 6 → (a1 = 7 → (bO (gI V [1] a0 6) (fun g_74 => Post g_74 V))) ∧ (¬ a1 = 7 → Post (-1 : Int32) V))))))))
abbrev rX1_count : Room := { frames := 4, cells := 0, slots := 0, locals := 85 }
theorem cdX1_count : yX1_count.cls = RX1 ∧ yX1_count.cls ≠ "java/lang/invoke/MethodHandle" ∧ yX1_count.cls ≠ "java/lang/invoke/VarHandle" ∧ (parseMethodDescriptor yX1_count.desc).map (fun d => d.parameters.length) = some 1 := by decide +kernel
set_option maxHeartbeats 4000000 in
set_option maxRecDepth 100000 in
theorem mvX1_count (l : Launch) {D : va_G} {cA : Nat → ClassId} {A : Nat → Prop} (a0 : Nat) (a1 : Int32) (V : VS) (Post : Int32 → VS → Prop) (h : vX1_count cA a0 a1 V Post) : Met l yX1_count (ws_ yX1_count cX1_count 4 (some (.int))) rX1_count (vPc [.ref a0, .int a1] D cA A V) (va_Qi Post (vB D A) A) 0 0 A := by
  refine vstM (own := RX1) (by decide) rfl (Nat.le_of_ble_eq_true rfl) ?_
  intro p e s m args below meth c ls X hret hV hS hl
  obtain ⟨S, hK, hG, hA, hnm, hlocks⟩ := X
  have hx := S.1
  have hb := S.2.1
  have hl : lv_has ls 4 [(0, .ref a0), (1, .int a1)] := hl
  have C111 : ∀ (k83 : Int32 → Int32 → VS → Prop) (K83 : (∀ (x2 : Int32) (x3 : Int32) (V : VS) (H : Heap) (locs : List Loc) (ls : Array Slot), HV D A V H → va_S A s.heap H locs → lv_has ls 4 [(0, .ref a0), (1, .int a1), (2, .int x2), (3, .int x3)] → k83 x2 x3 V → W p l e rX1_count s m args below meth c H locs 0 0 (MQ below (va_Qi Post (vB D A) A) args s 0 0 A) (F0 m 83 ls []))), ∀ (x3 : Int32) (t0 : Int32) (t1 : Int32) (V : VS) (H : Heap) (locs : List Loc) (ls : Array Slot), HV D A V H → va_S A s.heap H locs → lv_has ls 4 [(0, .ref a0), (1, .int a1), (3, .int x3)] → vX1_count_c111 cA a0 a1 k83 Post x3 t0 t1 V → W p l e rX1_count s m args below meth c H locs 0 0 (MQ below (va_Qi Post (vB D A) A) args s 0 0 A) (F0 m 111 ls [.int t0, .int t1]) := by
    intro k83 K83
    intro x3 t0 t1 V H locs ls hV hS hl h
    unfold vX1_count_c111 at h
    refine lv_iadd hx hb dX1_count_111 ?_
    refine lv_topi (fun v_51 e_v_51 => ?_)
    replace h := h v_51 e_v_51
    refine lv_istore_n (lv' := [(2, .int v_51), (0, .ref a0), (1, .int a1), (3, .int x3)]) hx hb dX1_count_112 rfl hl (by decide) rfl (fun ls hl => ?_)
    obtain ⟨v_52, e_v_52⟩ : ∃ y : Int32, y = x3 + (1 : Int32) := ⟨_, rfl⟩
    replace h := h v_52 e_v_52
    refine lv_iinc (v := v_52) (lv' := [(3, .int v_52), (2, .int v_51), (0, .ref a0), (1, .int a1)]) hx hb dX1_count_113 hl (k := 3) rfl (by rw [kc_1, e_v_52]) (by decide) rfl (fun ls hl => ?_)
    refine lv_goto (tgt := 83) hx hb dX1_count_116 (by decide) ?_
    exact K83 _ _ _ _ _ _ hV hS (lv_sub hl [2, 3, 1, 0] rfl) h
  have L83 : ∀ (n : Nat) (x2 : Int32) (x3 : Int32) (V : VS) (H : Heap) (locs : List Loc) (ls : Array Slot), HV D A V H → va_S A s.heap H locs → lv_has ls 4 [(0, .ref a0), (1, .int a1), (2, .int x2), (3, .int x3)] → vX1_count_l83 cA a0 a1 Post n x2 x3 V → W p l e rX1_count s m args below meth c H locs 0 0 (MQ below (va_Qi Post (vB D A) A) args s 0 0 A) (F0 m 83 ls []) := by
    intro n
    induction n with
    | zero => intro x2 x3 V H locs ls hV hS hl h; rw [vX1_count_l83] at h; exact h.elim
    | succ n ih =>
      intro x2 x3 V H locs ls hV hS hl h
      rw [vX1_count_l83] at h
      refine lv_iload_n hx hb dX1_count_83 rfl (lv_at hl 3 rfl) ?_
      refine lv_aload_n hx hb dX1_count_84 rfl (lv_at hl 0 rfl) ?_
      obtain ⟨p_35, e_36, h⟩ := bO_e h
      refine vg_r S hK hV fX1_49 e_36 dX1_count_85 ?_
      obtain ⟨n_37, z_n_37, h9⟩ := bO_e h
      clear h; subst z_n_37; have h := h9; clear h9
      obtain ⟨p_38, e_39, h⟩ := bO_e h
      refine vg_r S hK hV fX1_173 e_39 dX1_count_88 ?_
      obtain ⟨n_40, z_n_40, h9⟩ := bO_e h
      clear h; subst z_n_40; have h := h9; clear h9
      obtain ⟨o_43, e_44, h⟩ := bO_e h
      refine vk_i (vr_V (As := []) (rest := [.int x3]) S hK hG hA hV hS e_44 rfl (mvJ2_size l n_40 V _ h) (cwV 0 S.2.2.2.2 (lw_V q972 q591 q592 q144 q593) rfl rfl rfl cdJ2_size ⟨Nat.le_of_ble_eq_true rfl, Nat.le_of_ble_eq_true rfl⟩) rfl hl.1 (Nat.le_of_ble_eq_true rfl) dX1_count_91 ⟨Nat.le_refl _, Nat.le_refl _⟩) hS (fun r_41 V_42 H locs h hV hS => ?_)
      refine lv_icmp_ge (tgt := 119) hx hb dX1_count_94 (by decide) (fun c_45 => ?_) (fun c_45 => ?_)
      · replace h := h.1 c_45
        refine lv_iload_n hx hb dX1_count_119 rfl (lv_at hl 2 rfl) ?_
        exact ve_i S hlocks hret hV hS h rfl (Nat.le_refl _) (Nat.le_refl _) dX1_count_120
      · replace h := h.2 c_45
        refine lv_iload_n hx hb dX1_count_97 rfl (lv_at hl 2 rfl) ?_
        refine lv_aload_n hx hb dX1_count_98 rfl (lv_at hl 0 rfl) ?_
        refine lv_iload_n hx hb dX1_count_99 rfl (lv_at hl 3 rfl) ?_
        obtain ⟨o_48, e_49, h⟩ := bO_e h
        refine vk_i (vr_V (As := [.int x3]) (rest := [.int x2]) S hK hG hA hV hS e_49 rfl (mvX1_isHeard l a0 x3 V_42 _ h) (cwV 1 S.2.2.2.2 (lw_V q979 q981 qs32 q139 q982) rfl rfl rfl cdX1_isHeard ⟨Nat.le_of_ble_eq_true rfl, Nat.le_of_ble_eq_true rfl⟩) rfl hl.1 (Nat.le_of_ble_eq_true rfl) dX1_count_100 ⟨Nat.le_refl _, Nat.le_refl _⟩) hS (fun r_46 V_47 H locs h hV hS => ?_)
        refine lv_if_eq (tgt := 110) hx hb dX1_count_103 (by decide) (fun c_50 => ?_) (fun c_50 => ?_)
        · replace h := h.1 c_50
          refine lv_iconst hx hb dX1_count_110 kc_0 ?_
          exact C111 _ ih _ _ _ _ _ _ _ hV hS (lv_sub hl [0, 1, 3] rfl) h
        · replace h := h.2 c_50
          refine lv_iconst hx hb dX1_count_106 kc_1 ?_
          refine lv_goto (tgt := 111) hx hb dX1_count_107 (by decide) ?_
          exact C111 _ ih _ _ _ _ _ _ _ hV hS (lv_sub hl [0, 1, 3] rfl) h
  unfold vX1_count at h
  refine lv_iconst hx hb dX1_count_0 kc_0 ?_
  refine lv_istore_n (lv' := [(2, .int (0 : Int32)), (0, .ref a0), (1, .int a1)]) hx hb dX1_count_1 rfl hl (by decide) rfl (fun ls hl => ?_)
  refine lv_iload_n hx hb dX1_count_2 rfl (lv_at hl 2 rfl) ?_
  by_cases c_1 : a1 = 0
  · replace h := h.1 c_1
    refine lv_tableIn (tgt := 48) hx hb dX1_count_3 (by rw [c_1]; decide) (by rw [c_1]; decide) (by rw [c_1]; rfl) (by decide) ?_
    refine lv_aload_n hx hb dX1_count_48 rfl (lv_at hl 1 rfl) ?_
    obtain ⟨p_2, e_3, h⟩ := bO_e h
    refine vg_r S hK hV fX1_49 e_3 dX1_count_49 ?_
    obtain ⟨n_4, z_n_4, h9⟩ := bO_e h
    clear h; subst z_n_4; have h := h9; clear h9
    obtain ⟨p_5, e_6, h⟩ := bO_e h
    refine vg_r S hK hV fX1_125 e_6 dX1_count_52 ?_
    obtain ⟨n_7, z_n_7, h9⟩ := bO_e h
    clear h; subst z_n_7; have h := h9; clear h9
    obtain ⟨o_10, e_11, h⟩ := bO_e h
    refine vk_i (vr_V (As := []) (rest := []) S hK hG hA hV hS e_11 rfl (mvJ2_size l n_7 V _ h) (cwV 0 S.2.2.2.2 (lw_V q972 q591 q592 q144 q593) rfl rfl rfl cdJ2_size ⟨Nat.le_of_ble_eq_true rfl, Nat.le_of_ble_eq_true rfl⟩) rfl hl.1 (Nat.le_of_ble_eq_true rfl) dX1_count_55 ⟨Nat.le_refl _, Nat.le_refl _⟩) hS (fun r_8 V_9 H locs h hV hS => ?_)
    exact ve_i S hlocks hret hV hS h rfl (Nat.le_refl _) (Nat.le_refl _) dX1_count_58
  · replace h := h.2 c_1
    by_cases c_12 : a1 = 1
    · replace h := h.1 c_12
      refine lv_tableIn (tgt := 59) hx hb dX1_count_3 (by rw [c_12]; decide) (by rw [c_12]; decide) (by rw [c_12]; rfl) (by decide) ?_
      refine lv_aload_n hx hb dX1_count_59 rfl (lv_at hl 1 rfl) ?_
      obtain ⟨p_13, e_14, h⟩ := bO_e h
      refine vg_r S hK hV fX1_49 e_14 dX1_count_60 ?_
      obtain ⟨n_15, z_n_15, h9⟩ := bO_e h
      clear h; subst z_n_15; have h := h9; clear h9
      obtain ⟨p_16, e_17, h⟩ := bO_e h
      refine vg_r S hK hV fX1_115 e_17 dX1_count_63 ?_
      obtain ⟨n_18, z_n_18, h9⟩ := bO_e h
      clear h; subst z_n_18; have h := h9; clear h9
      obtain ⟨o_21, e_22, h⟩ := bO_e h
      refine vk_i (vr_V (As := []) (rest := []) S hK hG hA hV hS e_22 rfl (mvJ2_size l n_18 V _ h) (cwV 0 S.2.2.2.2 (lw_V q972 q591 q592 q144 q593) rfl rfl rfl cdJ2_size ⟨Nat.le_of_ble_eq_true rfl, Nat.le_of_ble_eq_true rfl⟩) rfl hl.1 (Nat.le_of_ble_eq_true rfl) dX1_count_66 ⟨Nat.le_refl _, Nat.le_refl _⟩) hS (fun r_19 V_20 H locs h hV hS => ?_)
      exact ve_i S hlocks hret hV hS h rfl (Nat.le_refl _) (Nat.le_refl _) dX1_count_69
    · replace h := h.2 c_12
      by_cases c_23 : a1 = 2
      · replace h := h.1 c_23
        refine lv_tableIn (tgt := 70) hx hb dX1_count_3 (by rw [c_23]; decide) (by rw [c_23]; decide) (by rw [c_23]; rfl) (by decide) ?_
        refine lv_aload_n hx hb dX1_count_70 rfl (lv_at hl 1 rfl) ?_
        obtain ⟨p_24, e_25, h⟩ := bO_e h
        refine vg_r S hK hV fX1_49 e_25 dX1_count_71 ?_
        obtain ⟨n_26, z_n_26, h9⟩ := bO_e h
        clear h; subst z_n_26; have h := h9; clear h9
        obtain ⟨p_27, e_28, h⟩ := bO_e h
        refine vg_r S hK hV fX1_173 e_28 dX1_count_74 ?_
        obtain ⟨n_29, z_n_29, h9⟩ := bO_e h
        clear h; subst z_n_29; have h := h9; clear h9
        obtain ⟨o_32, e_33, h⟩ := bO_e h
        refine vk_i (vr_V (As := []) (rest := []) S hK hG hA hV hS e_33 rfl (mvJ2_size l n_29 V _ h) (cwV 0 S.2.2.2.2 (lw_V q972 q591 q592 q144 q593) rfl rfl rfl cdJ2_size ⟨Nat.le_of_ble_eq_true rfl, Nat.le_of_ble_eq_true rfl⟩) rfl hl.1 (Nat.le_of_ble_eq_true rfl) dX1_count_77 ⟨Nat.le_refl _, Nat.le_refl _⟩) hS (fun r_30 V_31 H locs h hV hS => ?_)
        exact ve_i S hlocks hret hV hS h rfl (Nat.le_refl _) (Nat.le_refl _) dX1_count_80
      · replace h := h.2 c_23
        by_cases c_34 : a1 = 3
        · replace h := h.1 c_34
          refine lv_tableIn (tgt := 81) hx hb dX1_count_3 (by rw [c_34]; decide) (by rw [c_34]; decide) (by rw [c_34]; rfl) (by decide) ?_
          refine lv_iconst hx hb dX1_count_81 kc_0 ?_
          refine lv_istore_n (lv' := [(3, .int (0 : Int32)), (2, .int (0 : Int32)), (0, .ref a0), (1, .int a1)]) hx hb dX1_count_82 rfl hl (by decide) rfl (fun ls hl => ?_)
          obtain ⟨f, h⟩ := h
          exact L83 f _ _ _ _ _ _ hV hS (lv_sub hl [2, 3, 1, 0] rfl) h
        · replace h := h.2 c_34
          by_cases c_53 : a1 = 4
          · replace h := h.1 c_53
            refine lv_tableIn (tgt := 121) hx hb dX1_count_3 (by rw [c_53]; decide) (by rw [c_53]; decide) (by rw [c_53]; rfl) (by decide) ?_
            refine lv_aload_n hx hb dX1_count_121 rfl (lv_at hl 1 rfl) ?_
            obtain ⟨p_54, e_55, h⟩ := bO_e h
            refine vg_r S hK hV fX1_49 e_55 dX1_count_122 ?_
            obtain ⟨n_56, z_n_56, h9⟩ := bO_e h
            clear h; subst z_n_56; have h := h9; clear h9
            obtain ⟨p_57, e_58, h⟩ := bO_e h
            refine vg_r S hK hV fX1_281 e_58 dX1_count_125 ?_
            obtain ⟨n_59, z_n_59, h9⟩ := bO_e h
            clear h; subst z_n_59; have h := h9; clear h9
            obtain ⟨o_62, e_63, h⟩ := bO_e h
            refine vk_i (vr_V (As := []) (rest := []) S hK hG hA hV hS e_63 rfl (mvJ2_size l n_59 V _ h) (cwV 0 S.2.2.2.2 (lw_V q972 q591 q592 q144 q593) rfl rfl rfl cdJ2_size ⟨Nat.le_of_ble_eq_true rfl, Nat.le_of_ble_eq_true rfl⟩) rfl hl.1 (Nat.le_of_ble_eq_true rfl) dX1_count_128 ⟨Nat.le_refl _, Nat.le_refl _⟩) hS (fun r_60 V_61 H locs h hV hS => ?_)
            exact ve_i S hlocks hret hV hS h rfl (Nat.le_refl _) (Nat.le_refl _) dX1_count_131
          · replace h := h.2 c_53
            by_cases c_64 : a1 = 5
            · replace h := h.1 c_64
              refine lv_tableIn (tgt := 132) hx hb dX1_count_3 (by rw [c_64]; decide) (by rw [c_64]; decide) (by rw [c_64]; rfl) (by decide) ?_
              refine lv_aload_n hx hb dX1_count_132 rfl (lv_at hl 1 rfl) ?_
              obtain ⟨p_65, e_66, h⟩ := bO_e h
              refine vg_r S hK hV fX1_49 e_66 dX1_count_133 ?_
              obtain ⟨n_67, z_n_67, h9⟩ := bO_e h
              clear h; subst z_n_67; have h := h9; clear h9
              obtain ⟨g_68, e_69, h⟩ := bO_e h
              refine vg_i S hK hV fX1_402 e_69 dX1_count_136 ?_
              exact ve_i S hlocks hret hV hS h rfl (Nat.le_refl _) (Nat.le_refl _) dX1_count_139
            · replace h := h.2 c_64
              by_cases c_70 : a1 = 6
              · replace h := h.1 c_70
                refine lv_tableIn (tgt := 140) hx hb dX1_count_3 (by rw [c_70]; decide) (by rw [c_70]; decide) (by rw [c_70]; rfl) (by decide) ?_
                refine lv_aload_n hx hb dX1_count_140 rfl (lv_at hl 1 rfl) ?_
                obtain ⟨g_71, e_72, h⟩ := bO_e h
                refine vg_i S hK hV fX1_25 e_72 dX1_count_141 ?_
                exact ve_i S hlocks hret hV hS h rfl (Nat.le_refl _) (Nat.le_refl _) dX1_count_144
              · replace h := h.2 c_70
                by_cases c_73 : a1 = 7
                · replace h := h.1 c_73
                  refine lv_tableIn (tgt := 145) hx hb dX1_count_3 (by rw [c_73]; decide) (by rw [c_73]; decide) (by rw [c_73]; rfl) (by decide) ?_
                  refine lv_aload_n hx hb dX1_count_145 rfl (lv_at hl 1 rfl) ?_
                  obtain ⟨g_74, e_75, h⟩ := bO_e h
                  refine vg_i S hK hV fX1_102 e_75 dX1_count_146 ?_
                  exact ve_i S hlocks hret hV hS h rfl (Nat.le_refl _) (Nat.le_refl _) dX1_count_149
                · replace h := h.2 c_73
                  refine lv_tableOut (tgt := 150) hx hb dX1_count_3 (by have z0 := sw_n (n := 0) c_1 rfl; have z1 := sw_n (n := 1) c_12 rfl; have z2 := sw_n (n := 2) c_23 rfl; have z3 := sw_n (n := 3) c_34 rfl; have z4 := sw_n (n := 4) c_53 rfl; have z5 := sw_n (n := 5) c_64 rfl; have z6 := sw_n (n := 6) c_70 rfl; have z7 := sw_n (n := 7) c_73 rfl; omega) (by decide) ?_
                  refine lv_iconst hx hb dX1_count_150 kc_m1 ?_
                  exact ve_i S hlocks hret hV hS h rfl (Nat.le_refl _) (Nat.le_refl _) dX1_count_151
def vX1_hear (cA : Nat → ClassId) (a0 : Nat) (a1 : Int32) (V : VS) (Post : Int32 → VS → Prop) : Prop := w1_in a1 (0 : Int32) (199 : Int32) (fun r_1 => (r_1 = 0 → (Post (-1 : Int32) V)) ∧ (¬ (r_1 = 0) → (bO (pF V [1] a0 4 (.int a1)) (fun V_3 => bO (vO V_3 [1] a0) (fun o_7 => vX1_count cA a0 (3 : Int32) V_3 (fun r_5 V_6 => Post r_5 V_6))))))
abbrev rX1_hear : Room := { frames := 5, cells := 0, slots := 0, locals := 108 }
theorem cdX1_hear : yX1_hear.cls = RX1 ∧ yX1_hear.cls ≠ "java/lang/invoke/MethodHandle" ∧ yX1_hear.cls ≠ "java/lang/invoke/VarHandle" ∧ (parseMethodDescriptor yX1_hear.desc).map (fun d => d.parameters.length) = some 1 := by decide +kernel
set_option maxHeartbeats 4000000 in
set_option maxRecDepth 100000 in
theorem mvX1_hear (l : Launch) {D : va_G} {cA : Nat → ClassId} {A : Nat → Prop} (a0 : Nat) (a1 : Int32) (V : VS) (Post : Int32 → VS → Prop) (h : vX1_hear cA a0 a1 V Post) : Met l yX1_hear (ws_ yX1_hear cX1_hear 2 (some (.int))) rX1_hear (vPc [.ref a0, .int a1] D cA A V) (va_Qi Post (vB D A) A) 0 0 A := by
  refine vstM (own := RX1) (by decide) rfl (Nat.le_of_ble_eq_true rfl) ?_
  intro p e s m args below meth c ls X hret hV hS hl
  obtain ⟨S, hK, hG, hA, hnm, hlocks⟩ := X
  have hx := S.1
  have hb := S.2.1
  have hl : lv_has ls 2 [(0, .ref a0), (1, .int a1)] := hl
  unfold vX1_hear at h
  refine lv_iload_n hx hb dX1_hear_0 rfl (lv_at hl 1 rfl) ?_
  refine lv_iconst hx hb dX1_hear_1 kc_0 ?_
  refine lv_sipush hx hb dX1_hear_2 ks_199 ?_
  refine sc_i S (As := [.int a1, .int (0 : Int32), .int (199 : Int32)]) (rest := []) (mt1_in l a1 (0 : Int32) (199 : Int32) _ h) (va_cwS 3 S.2.2.2.2 (lw_S q367 q368 q139 q369) rfl rfl rfl cdX1_in ⟨Nat.le_of_ble_eq_true rfl, Nat.le_of_ble_eq_true rfl⟩) rfl rfl hl.1 (Nat.le_of_ble_eq_true rfl) dX1_hear_5 ⟨Nat.le_refl _, Nat.le_refl _⟩ (fun r_1 h => ?_)
  refine lv_if_ne (tgt := 13) hx hb dX1_hear_8 (by decide) (fun c_2 => ?_) (fun c_2 => ?_)
  · replace h := h.2 c_2
    refine lv_aload_n hx hb dX1_hear_13 rfl (lv_at hl 0 rfl) ?_
    refine lv_iload_n hx hb dX1_hear_14 rfl (lv_at hl 1 rfl) ?_
    obtain ⟨V_3, e_4, h⟩ := bO_e h
    refine vp_v (v := .int a1) S hK hV hS fX1_25 (Or.inl rfl) rfl rfl e_4 dX1_hear_15 (fun H locs hV hS => ?_)
    refine lv_aload_n hx hb dX1_hear_18 rfl (lv_at hl 0 rfl) ?_
    refine lv_iconst hx hb dX1_hear_19 kc_3 ?_
    obtain ⟨o_7, e_8, h⟩ := bO_e h
    refine vk_i (vr_V (As := [.int (3 : Int32)]) (rest := []) S hK hG hA hV hS e_8 rfl (mvX1_count l a0 (3 : Int32) V_3 _ h) (cwV 1 S.2.2.2.2 (lw_V q1024 q1025 q1026 q139 q1027) rfl rfl rfl cdX1_count ⟨Nat.le_of_ble_eq_true rfl, Nat.le_of_ble_eq_true rfl⟩) rfl hl.1 (Nat.le_of_ble_eq_true rfl) dX1_hear_20 ⟨Nat.le_refl _, Nat.le_refl _⟩) hS (fun r_5 V_6 H locs h hV hS => ?_)
    exact ve_i S hlocks hret hV hS h rfl (Nat.le_refl _) (Nat.le_refl _) dX1_hear_23
  · replace h := h.1 c_2
    refine lv_iconst hx hb dX1_hear_11 kc_m1 ?_
    exact ve_i S hlocks hret hV hS h rfl (Nat.le_refl _) (Nat.le_refl _) dX1_hear_12
def vX1_aWord (cA : Nat → ClassId) (a0 : Nat) (a1 : Int32) (V : VS) (Post : Option Nat → VS → Prop) : Prop := bO (vO V [1] a0) (fun o_3 => vX1_isHeard cA a0 a1 V (fun r_1 V_2 => (r_1 = 0 → (Post (none) V_2)) ∧ (¬ (r_1 = 0) → (bO (gR V_2 [1] a0 11) (fun p_6 => bO p_6 (fun n_8 => bO (gR V_2 [3] n_8 2) (fun p_9 => bO p_9 (fun n_11 => bO (vO V_2 [14] n_11) (fun o_14 => vJ2_get cA n_11 a1 V_2 (fun p_12 V_13 => bO p_12 (fun n_16 => bO (vO V_13 [7, 8] n_16) (fun o_17 => ∀ K_21 : Int32 → VS → Prop, K_21 = (fun r_19 V_20 => (r_19 = 0 → (Post (none) V_20)) ∧ (¬ (r_19 = 0) → (bO (gR V_20 [1] a0 11) (fun p_25 => bO p_25 (fun n_27 => bO (gR V_20 [3] n_27 2) (fun p_28 => bO p_28 (fun n_30 => bO (vO V_20 [14] n_30) (fun o_33 => vJ2_get cA n_30 a1 V_20 (fun p_31 V_32 => bO p_31 (fun n_35 => bO (vO V_32 [7] n_35) (fun o_36 => Post (some n_35) V_32))))))))))) → bO (vO V_13 [7, 8] n_16) (fun o_22 => (o_22.1 = 7 → vX9_isWord cA n_16 V_13 K_21) ∧ (¬ o_22.1 = 7 → vX8_isWord cA n_16 V_13 K_21))))))))))))))
abbrev rX1_aWord : Room := { frames := 4, cells := 0, slots := 0, locals := 85 }
theorem cdX1_aWord : yX1_aWord.cls = RX1 ∧ yX1_aWord.cls ≠ "java/lang/invoke/MethodHandle" ∧ yX1_aWord.cls ≠ "java/lang/invoke/VarHandle" ∧ (parseMethodDescriptor yX1_aWord.desc).map (fun d => d.parameters.length) = some 1 := by decide +kernel
set_option maxHeartbeats 4000000 in
set_option maxRecDepth 100000 in
theorem mvX1_aWord (l : Launch) {D : va_G} {cA : Nat → ClassId} {A : Nat → Prop} (a0 : Nat) (a1 : Int32) (V : VS) (Post : Option Nat → VS → Prop) (h : vX1_aWord cA a0 a1 V Post) : Met l yX1_aWord (ws_ yX1_aWord cX1_aWord 2 (some (.object "SaidSo$Word"))) rX1_aWord (vPc [.ref a0, .int a1] D cA A V) (va_Qq Post (vB D A) A) 0 0 A := by
  refine vstM (own := RX1) (by decide) rfl (Nat.le_of_ble_eq_true rfl) ?_
  intro p e s m args below meth c ls X hret hV hS hl
  obtain ⟨S, hK, hG, hA, hnm, hlocks⟩ := X
  have hx := S.1
  have hb := S.2.1
  have hl : lv_has ls 2 [(0, .ref a0), (1, .int a1)] := hl
  unfold vX1_aWord at h
  refine lv_aload_n hx hb dX1_aWord_0 rfl (lv_at hl 0 rfl) ?_
  refine lv_iload_n hx hb dX1_aWord_1 rfl (lv_at hl 1 rfl) ?_
  obtain ⟨o_3, e_4, h⟩ := bO_e h
  refine vk_i (vr_V (As := [.int a1]) (rest := []) S hK hG hA hV hS e_4 rfl (mvX1_isHeard l a0 a1 V _ h) (cwV 1 S.2.2.2.2 (lw_V q979 q981 qs32 q139 q982) rfl rfl rfl cdX1_isHeard ⟨Nat.le_of_ble_eq_true rfl, Nat.le_of_ble_eq_true rfl⟩) rfl hl.1 (Nat.le_of_ble_eq_true rfl) dX1_aWord_2 ⟨Nat.le_refl _, Nat.le_refl _⟩) hS (fun r_1 V_2 H locs h hV hS => ?_)
  refine lv_if_eq (tgt := 45) hx hb dX1_aWord_5 (by decide) (fun c_5 => ?_) (fun c_5 => ?_)
  · replace h := h.1 c_5
    refine lv_null hx hb dX1_aWord_45 ?_
    exact ve_q (r := none) S hlocks hret (Or.inl ⟨_, rfl⟩) hV hS h (Nat.le_refl _) (Nat.le_refl _) dX1_aWord_46
  · replace h := h.2 c_5
    refine lv_aload_n hx hb dX1_aWord_8 rfl (lv_at hl 0 rfl) ?_
    obtain ⟨p_6, e_7, h⟩ := bO_e h
    refine vg_r S hK hV fX1_49 e_7 dX1_aWord_9 ?_
    obtain ⟨n_8, z_n_8, h9⟩ := bO_e h
    clear h; subst z_n_8; have h := h9; clear h9
    obtain ⟨p_9, e_10, h⟩ := bO_e h
    refine vg_r S hK hV fX1_173 e_10 dX1_aWord_12 ?_
    refine lv_iload_n hx hb dX1_aWord_15 rfl (lv_at hl 1 rfl) ?_
    obtain ⟨n_11, z_n_11, h9⟩ := bO_e h
    clear h; subst z_n_11; have h := h9; clear h9
    obtain ⟨o_14, e_15, h⟩ := bO_e h
    refine vk_q (vr_V (As := [.int a1]) (rest := []) S hK hG hA hV hS e_15 rfl (mvJ2_get l n_11 a1 V_2 _ h) (cwV 1 S.2.2.2.2 (lw_V q973 q608 q609 q144 q610) rfl rfl rfl cdJ2_get ⟨Nat.le_of_ble_eq_true rfl, Nat.le_of_ble_eq_true rfl⟩) rfl hl.1 (Nat.le_of_ble_eq_true rfl) dX1_aWord_16 ⟨Nat.le_refl _, Nat.le_refl _⟩) hS (fun p_12 V_13 H locs h hV hS => ?_)
    obtain ⟨n_16, z_n_16, h9⟩ := bO_e h
    clear h; subst z_n_16; have h := h9; clear h9
    obtain ⟨o_17, e_18, h⟩ := bO_e h
    refine v_cast S hK hV e_18 ct_SaidSo_Line q983 dX1_aWord_19 ?_
    obtain ⟨K_21, e_K_21⟩ : ∃ y : Int32 → VS → Prop, y = (fun r_19 V_20 => (r_19 = 0 → (Post (none) V_20)) ∧ (¬ (r_19 = 0) → (bO (gR V_20 [1] a0 11) (fun p_25 => bO p_25 (fun n_27 => bO (gR V_20 [3] n_27 2) (fun p_28 => bO p_28 (fun n_30 => bO (vO V_20 [14] n_30) (fun o_33 => vJ2_get cA n_30 a1 V_20 (fun p_31 V_32 => bO p_31 (fun n_35 => bO (vO V_32 [7] n_35) (fun o_36 => Post (some n_35) V_32))))))))))) := ⟨_, rfl⟩
    replace h := h K_21 e_K_21
    obtain ⟨o_22, e_23, h⟩ := bO_e h
    have hm := (vO_e e_23).2
    simp only [List.mem_cons, List.not_mem_nil, or_false] at hm
    have KK : ∀ (r_19 : Int32) (V_20 : VS) (H1 : Heap) (locs1 : List Loc), K_21 r_19 V_20 → HV D A V_20 H1 → va_S A s.heap H1 locs1 → W p l e rX1_aWord s m args below meth c H1 locs1 (0) (0) (MQ below (va_Qq Post (vB D A) A) args s 0 0 A) (F0 m 25 ls (.int r_19 :: [])) := by
      intro r_19 V_20 H locs h hV hS
      rw [e_K_21] at h
      refine lv_if_eq (tgt := 45) hx hb dX1_aWord_25 (by decide) (fun c_24 => ?_) (fun c_24 => ?_)
      · replace h := h.1 c_24
        refine lv_null hx hb dX1_aWord_45 ?_
        exact ve_q (r := none) S hlocks hret (Or.inl ⟨_, rfl⟩) hV hS h (Nat.le_refl _) (Nat.le_refl _) dX1_aWord_46
      · replace h := h.2 c_24
        refine lv_aload_n hx hb dX1_aWord_28 rfl (lv_at hl 0 rfl) ?_
        obtain ⟨p_25, e_26, h⟩ := bO_e h
        refine vg_r S hK hV fX1_49 e_26 dX1_aWord_29 ?_
        obtain ⟨n_27, z_n_27, h9⟩ := bO_e h
        clear h; subst z_n_27; have h := h9; clear h9
        obtain ⟨p_28, e_29, h⟩ := bO_e h
        refine vg_r S hK hV fX1_173 e_29 dX1_aWord_32 ?_
        refine lv_iload_n hx hb dX1_aWord_35 rfl (lv_at hl 1 rfl) ?_
        obtain ⟨n_30, z_n_30, h9⟩ := bO_e h
        clear h; subst z_n_30; have h := h9; clear h9
        obtain ⟨o_33, e_34, h⟩ := bO_e h
        refine vk_q (vr_V (As := [.int a1]) (rest := []) S hK hG hA hV hS e_34 rfl (mvJ2_get l n_30 a1 V_20 _ h) (cwV 1 S.2.2.2.2 (lw_V q973 q608 q609 q144 q610) rfl rfl rfl cdJ2_get ⟨Nat.le_of_ble_eq_true rfl, Nat.le_of_ble_eq_true rfl⟩) rfl hl.1 (Nat.le_of_ble_eq_true rfl) dX1_aWord_36 ⟨Nat.le_refl _, Nat.le_refl _⟩) hS (fun p_31 V_32 H locs h hV hS => ?_)
        obtain ⟨n_35, z_n_35, h9⟩ := bO_e h
        clear h; subst z_n_35; have h := h9; clear h9
        obtain ⟨o_36, e_37, h⟩ := bO_e h
        refine v_cast S hK hV e_37 ct_SaidSo_Word q1002 dX1_aWord_39 ?_
        refine lv_goto (tgt := 46) hx hb dX1_aWord_42 (by decide) ?_
        exact ve_q (r := some n_35) S hlocks hret (Or.inl ⟨_, rfl⟩) hV hS h (Nat.le_refl _) (Nat.le_refl _) dX1_aWord_46
    by_cases OC0 : o_22.1 = 7
    · replace h := h.1 OC0
      exact vk_i (vr_U (As := []) (rest := []) S hK hG hA hV hS e_23 OC0 rfl (mvX9_isWord l n_16 V_13 _ h) (va_cwO 0 S.2.2.2.2 (lw_O q984 q986 q985 q988 q989 q162 q990) rfl rfl rfl q991 (by decide +kernel) ⟨Nat.le_of_ble_eq_true rfl, Nat.le_of_ble_eq_true rfl⟩) rfl hl.1 (Nat.le_of_ble_eq_true rfl) dX1_aWord_22 ⟨Nat.le_refl _, Nat.le_refl _⟩) hS KK
    · replace h := h.2 OC0
      have OC1 : o_22.1 = 8 := by omega
      exact vk_i (vr_U (As := []) (rest := []) S hK hG hA hV hS e_23 OC1 rfl (mvX8_isWord l n_16 V_13 _ h) (va_cwU 0 S.2.2.2.2 (lw_U q984 q986 q987 q985 q161 q991) rfl rfl rfl rfl (by decide +kernel) ⟨Nat.le_of_ble_eq_true rfl, Nat.le_of_ble_eq_true rfl⟩) rfl hl.1 (Nat.le_of_ble_eq_true rfl) dX1_aWord_22 ⟨Nat.le_refl _, Nat.le_refl _⟩) hS KK
def vX9_isRight (cA : Nat → ClassId) (a0 : Nat) (V : VS) (Post : Int32 → VS → Prop) : Prop := bO (gI V [7] a0 5) (fun g_1 => bO (gR V [7] a0 1) (fun p_3 => bO p_3 (fun n_5 => bO (gI V [5] n_5 2) (fun g_6 => (g_1 = g_6 → (Post (1 : Int32) V)) ∧ (¬ (g_1 = g_6) → (Post (0 : Int32) V))))))
abbrev rX9_isRight : Room := { frames := 0, cells := 0, slots := 0, locals := 0 }
theorem cdX9_isRight : yX9_isRight.cls = RX9 ∧ yX9_isRight.cls ≠ "java/lang/invoke/MethodHandle" ∧ yX9_isRight.cls ≠ "java/lang/invoke/VarHandle" ∧ (parseMethodDescriptor yX9_isRight.desc).map (fun d => d.parameters.length) = some 0 := by decide +kernel
set_option maxHeartbeats 4000000 in
set_option maxRecDepth 100000 in
theorem mvX9_isRight (l : Launch) {D : va_G} {cA : Nat → ClassId} {A : Nat → Prop} (a0 : Nat) (V : VS) (Post : Int32 → VS → Prop) (h : vX9_isRight cA a0 V Post) : Met l yX9_isRight (ws_ yX9_isRight cX9_isRight 1 (some (.boolean))) rX9_isRight (vPc [.ref a0] D cA A V) (va_Qi Post (vB D A) A) 0 0 A := by
  refine vstM (own := RX9) (by decide) rfl (Nat.le_of_ble_eq_true rfl) ?_
  intro p e s m args below meth c ls X hret hV hS hl
  obtain ⟨S, hK, hG, hA, hnm, hlocks⟩ := X
  have hx := S.1
  have hb := S.2.1
  have hl : lv_has ls 1 [(0, .ref a0)] := hl
  unfold vX9_isRight at h
  refine lv_aload_n hx hb dX9_isRight_0 rfl (lv_at hl 0 rfl) ?_
  obtain ⟨g_1, e_2, h⟩ := bO_e h
  refine vg_i S hK hV fX9_7 e_2 dX9_isRight_1 ?_
  refine lv_aload_n hx hb dX9_isRight_4 rfl (lv_at hl 0 rfl) ?_
  obtain ⟨p_3, e_4, h⟩ := bO_e h
  refine vg_r S hK hV fX9_13 e_4 dX9_isRight_5 ?_
  obtain ⟨n_5, z_n_5, h9⟩ := bO_e h
  clear h; subst z_n_5; have h := h9; clear h9
  obtain ⟨g_6, e_7, h⟩ := bO_e h
  refine vg_i S hK hV fX9_17 e_7 dX9_isRight_8 ?_
  refine lv_icmp_ne (tgt := 18) hx hb dX9_isRight_11 (by decide) (fun c_8 => ?_) (fun c_8 => ?_)
  · replace h := h.2 c_8
    refine lv_iconst hx hb dX9_isRight_18 kc_0 ?_
    exact ve_i S hlocks hret hV hS h (vz_nar vz_0) (Nat.le_refl _) (Nat.le_refl _) dX9_isRight_19
  · replace h := h.1 c_8
    refine lv_iconst hx hb dX9_isRight_14 kc_1 ?_
    refine lv_goto (tgt := 19) hx hb dX9_isRight_15 (by decide) ?_
    exact ve_i S hlocks hret hV hS h (vz_nar vz_1) (Nat.le_refl _) (Nat.le_refl _) dX9_isRight_19
def vX1_heard (cA : Nat → ClassId) (a0 : Nat) (a1 : Int32) (a2 : Int32) (a3 : Int32) (V : VS) (Post : Option Nat → VS → Prop) : Prop := bO (gR V [1] a0 11) (fun p_1 => bO p_1 (fun n_3 => bO (gR V [3] n_3 2) (fun p_4 => bO p_4 (fun n_6 => bO (vO V [14] n_6) (fun o_9 => vJ2_get cA n_6 a1 V (fun p_7 V_8 => bO p_7 (fun n_11 => bO (vO V_8 [7, 8] n_11) (fun o_12 => bO (gI V_8 [7, 8] n_11 4) (fun g_14 => bO (gI V_8 [1] a0 4) (fun g_16 => (g_16 < g_14 → (Post (none) V_8)) ∧ (¬ (g_16 < g_14) → (bO (gI V_8 [7, 8] n_11 2) (fun g_19 => (g_19 = a2 → ((a3 = (-1 : Int32) → (Post (some n_11) V_8)) ∧ (¬ (a3 = (-1 : Int32)) → (bO (gI V_8 [7, 8] n_11 3) (fun g_23 => (g_23 = a3 → (Post (some n_11) V_8)) ∧ (¬ (g_23 = a3) → (Post (none) V_8))))))) ∧ (¬ (g_19 = a2) → (Post (none) V_8)))))))))))))))
abbrev rX1_heard : Room := { frames := 3, cells := 0, slots := 0, locals := 64 }
theorem cdX1_heard : yX1_heard.cls = RX1 ∧ yX1_heard.cls ≠ "java/lang/invoke/MethodHandle" ∧ yX1_heard.cls ≠ "java/lang/invoke/VarHandle" ∧ (parseMethodDescriptor yX1_heard.desc).map (fun d => d.parameters.length) = some 3 := by decide +kernel
set_option maxHeartbeats 4000000 in
set_option maxRecDepth 100000 in
theorem mvX1_heard (l : Launch) {D : va_G} {cA : Nat → ClassId} {A : Nat → Prop} (a0 : Nat) (a1 : Int32) (a2 : Int32) (a3 : Int32) (V : VS) (Post : Option Nat → VS → Prop) (h : vX1_heard cA a0 a1 a2 a3 V Post) : Met l yX1_heard (ws_ yX1_heard cX1_heard 5 (some (.object "SaidSo$Line"))) rX1_heard (vPc [.ref a0, .int a1, .int a2, .int a3] D cA A V) (va_Qq Post (vB D A) A) 0 0 A := by
  refine vstM (own := RX1) (by decide) rfl (Nat.le_of_ble_eq_true rfl) ?_
  intro p e s m args below meth c ls X hret hV hS hl
  obtain ⟨S, hK, hG, hA, hnm, hlocks⟩ := X
  have hx := S.1
  have hb := S.2.1
  have hl : lv_has ls 5 [(0, .ref a0), (1, .int a1), (2, .int a2), (3, .int a3)] := hl
  unfold vX1_heard at h
  refine lv_aload_n hx hb dX1_heard_0 rfl (lv_at hl 0 rfl) ?_
  obtain ⟨p_1, e_2, h⟩ := bO_e h
  refine vg_r S hK hV fX1_49 e_2 dX1_heard_1 ?_
  obtain ⟨n_3, z_n_3, h9⟩ := bO_e h
  clear h; subst z_n_3; have h := h9; clear h9
  obtain ⟨p_4, e_5, h⟩ := bO_e h
  refine vg_r S hK hV fX1_173 e_5 dX1_heard_4 ?_
  refine lv_iload_n hx hb dX1_heard_7 rfl (lv_at hl 1 rfl) ?_
  obtain ⟨n_6, z_n_6, h9⟩ := bO_e h
  clear h; subst z_n_6; have h := h9; clear h9
  obtain ⟨o_9, e_10, h⟩ := bO_e h
  refine vk_q (vr_V (As := [.int a1]) (rest := []) S hK hG hA hV hS e_10 rfl (mvJ2_get l n_6 a1 V _ h) (cwV 1 S.2.2.2.2 (lw_V q973 q608 q609 q144 q610) rfl rfl rfl cdJ2_get ⟨Nat.le_of_ble_eq_true rfl, Nat.le_of_ble_eq_true rfl⟩) rfl hl.1 (Nat.le_of_ble_eq_true rfl) dX1_heard_8 ⟨Nat.le_refl _, Nat.le_refl _⟩) hS (fun p_7 V_8 H locs h hV hS => ?_)
  obtain ⟨n_11, z_n_11, h9⟩ := bO_e h
  clear h; subst z_n_11; have h := h9; clear h9
  obtain ⟨o_12, e_13, h⟩ := bO_e h
  refine v_cast S hK hV e_13 ct_SaidSo_Line q983 dX1_heard_11 ?_
  refine lv_astore (lv' := [(4, .ref n_11), (0, .ref a0), (1, .int a1), (2, .int a2), (3, .int a3)]) hx hb dX1_heard_14 hl (by decide) rfl (fun ls hl => ?_)
  refine lv_aload hx hb dX1_heard_16 (lv_at hl 0 rfl) ?_
  obtain ⟨g_14, e_15, h⟩ := bO_e h
  refine vg_i S hK hV fX1_178 e_15 dX1_heard_18 ?_
  refine lv_aload_n hx hb dX1_heard_21 rfl (lv_at hl 1 rfl) ?_
  obtain ⟨g_16, e_17, h⟩ := bO_e h
  refine vg_i S hK hV fX1_25 e_17 dX1_heard_22 ?_
  refine lv_icmp_gt (tgt := 56) hx hb dX1_heard_25 (by decide) (fun c_18 => ?_) (fun c_18 => ?_)
  · replace h := h.1 c_18
    refine lv_null hx hb dX1_heard_56 ?_
    exact ve_q (r := none) S hlocks hret (Or.inl ⟨_, rfl⟩) hV hS h (Nat.le_refl _) (Nat.le_refl _) dX1_heard_57
  · replace h := h.2 c_18
    refine lv_aload hx hb dX1_heard_28 (lv_at hl 0 rfl) ?_
    obtain ⟨g_19, e_20, h⟩ := bO_e h
    refine vg_i S hK hV fX1_181 e_20 dX1_heard_30 ?_
    refine lv_iload_n hx hb dX1_heard_33 rfl (lv_at hl 3 rfl) ?_
    refine lv_icmp_ne (tgt := 56) hx hb dX1_heard_34 (by decide) (fun c_21 => ?_) (fun c_21 => ?_)
    · replace h := h.2 c_21
      refine lv_null hx hb dX1_heard_56 ?_
      exact ve_q (r := none) S hlocks hret (Or.inl ⟨_, rfl⟩) hV hS h (Nat.le_refl _) (Nat.le_refl _) dX1_heard_57
    · replace h := h.1 c_21
      refine lv_iload_n hx hb dX1_heard_37 rfl (lv_at hl 4 rfl) ?_
      refine lv_iconst hx hb dX1_heard_38 kc_m1 ?_
      refine lv_icmp_eq (tgt := 51) hx hb dX1_heard_39 (by decide) (fun c_22 => ?_) (fun c_22 => ?_)
      · replace h := h.1 c_22
        refine lv_aload hx hb dX1_heard_51 (lv_at hl 0 rfl) ?_
        refine lv_goto (tgt := 57) hx hb dX1_heard_53 (by decide) ?_
        exact ve_q (r := some n_11) S hlocks hret (Or.inl ⟨_, rfl⟩) hV hS h (Nat.le_refl _) (Nat.le_refl _) dX1_heard_57
      · replace h := h.2 c_22
        refine lv_aload hx hb dX1_heard_42 (lv_at hl 0 rfl) ?_
        obtain ⟨g_23, e_24, h⟩ := bO_e h
        refine vg_i S hK hV fX1_184 e_24 dX1_heard_44 ?_
        refine lv_iload_n hx hb dX1_heard_47 rfl (lv_at hl 4 rfl) ?_
        refine lv_icmp_ne (tgt := 56) hx hb dX1_heard_48 (by decide) (fun c_25 => ?_) (fun c_25 => ?_)
        · replace h := h.2 c_25
          refine lv_null hx hb dX1_heard_56 ?_
          exact ve_q (r := none) S hlocks hret (Or.inl ⟨_, rfl⟩) hV hS h (Nat.le_refl _) (Nat.le_refl _) dX1_heard_57
        · replace h := h.1 c_25
          refine lv_aload hx hb dX1_heard_51 (lv_at hl 0 rfl) ?_
          refine lv_goto (tgt := 57) hx hb dX1_heard_53 (by decide) ?_
          exact ve_q (r := some n_11) S hlocks hret (Or.inl ⟨_, rfl⟩) hV hS h (Nat.le_refl _) (Nat.le_refl _) dX1_heard_57
def vX1_word_2 (cA : Nat → ClassId) (a0 : Nat) (a1 : Int32) (a2 : Int32) (a3 : Int32) (V : VS) (Post : Option Nat → VS → Prop) : Prop := bO (vO V [1] a0) (fun o_3 => vX1_heard cA a0 a1 a2 a3 V (fun p_1 V_2 => (p_1 = none → (Post (none) V_2)) ∧ (∀ n_5 : Nat, p_1 = some n_5 → (∀ K_8 : Int32 → VS → Prop, K_8 = (fun r_6 V_7 => (r_6 = 0 → (Post (none) V_7)) ∧ (¬ (r_6 = 0) → (bO (vO V_7 [7] n_5) (fun o_12 => Post (some n_5) V_7)))) → bO (vO V_2 [7, 8] n_5) (fun o_9 => (o_9.1 = 7 → vX9_isWord cA n_5 V_2 K_8) ∧ (¬ o_9.1 = 7 → vX8_isWord cA n_5 V_2 K_8))))))
abbrev rX1_word_2 : Room := { frames := 4, cells := 0, slots := 0, locals := 88 }
theorem cdX1_word_2 : yX1_word_2.cls = RX1 ∧ yX1_word_2.cls ≠ "java/lang/invoke/MethodHandle" ∧ yX1_word_2.cls ≠ "java/lang/invoke/VarHandle" ∧ (parseMethodDescriptor yX1_word_2.desc).map (fun d => d.parameters.length) = some 3 := by decide +kernel
set_option maxHeartbeats 4000000 in
set_option maxRecDepth 100000 in
theorem mvX1_word_2 (l : Launch) {D : va_G} {cA : Nat → ClassId} {A : Nat → Prop} (a0 : Nat) (a1 : Int32) (a2 : Int32) (a3 : Int32) (V : VS) (Post : Option Nat → VS → Prop) (h : vX1_word_2 cA a0 a1 a2 a3 V Post) : Met l yX1_word_2 (ws_ yX1_word_2 cX1_word_2 5 (some (.object "SaidSo$Word"))) rX1_word_2 (vPc [.ref a0, .int a1, .int a2, .int a3] D cA A V) (va_Qq Post (vB D A) A) 0 0 A := by
  refine vstM (own := RX1) (by decide) rfl (Nat.le_of_ble_eq_true rfl) ?_
  intro p e s m args below meth c ls X hret hV hS hl
  obtain ⟨S, hK, hG, hA, hnm, hlocks⟩ := X
  have hx := S.1
  have hb := S.2.1
  have hl : lv_has ls 5 [(0, .ref a0), (1, .int a1), (2, .int a2), (3, .int a3)] := hl
  unfold vX1_word_2 at h
  refine lv_aload_n hx hb dX1_word_2_0 rfl (lv_at hl 0 rfl) ?_
  refine lv_iload_n hx hb dX1_word_2_1 rfl (lv_at hl 1 rfl) ?_
  refine lv_iload_n hx hb dX1_word_2_2 rfl (lv_at hl 2 rfl) ?_
  refine lv_iload_n hx hb dX1_word_2_3 rfl (lv_at hl 3 rfl) ?_
  obtain ⟨o_3, e_4, h⟩ := bO_e h
  refine vk_q (vr_V (As := [.int a1, .int a2, .int a3]) (rest := []) S hK hG hA hV hS e_4 rfl (mvX1_heard l a0 a1 a2 a3 V _ h) (cwV 3 S.2.2.2.2 (lw_V q1052 q1054 qs39 q139 q1055) rfl rfl rfl cdX1_heard ⟨Nat.le_of_ble_eq_true rfl, Nat.le_of_ble_eq_true rfl⟩) rfl hl.1 (Nat.le_of_ble_eq_true rfl) dX1_word_2_4 ⟨Nat.le_refl _, Nat.le_refl _⟩) hS (fun p_1 V_2 H locs h hV hS => ?_)
  refine lv_astoreQ (r := p_1) (lv' := [(4, va_rf p_1), (0, .ref a0), (1, .int a1), (2, .int a2), (3, .int a3)]) hx hb dX1_word_2_7 hl (by decide) rfl (fun ls hl => ?_)
  refine lv_aloadQ hx hb dX1_word_2_9 (lv_at hl 0 rfl) ?_
  rcases p_1 with _ | n_5
  · replace h := h.1 rfl
    refine lv_ifnullN (tgt := 30) hx hb dX1_word_2_11 (by decide) ?_
    refine lv_null hx hb dX1_word_2_30 ?_
    exact ve_q (r := none) S hlocks hret (Or.inl ⟨_, rfl⟩) hV hS h (Nat.le_refl _) (Nat.le_refl _) dX1_word_2_31
  · replace h := h.2 n_5 rfl
    refine lv_ifnull hx hb dX1_word_2_11 ?_
    refine lv_aload hx hb dX1_word_2_14 (lv_at hl 0 rfl) ?_
    obtain ⟨K_8, e_K_8⟩ : ∃ y : Int32 → VS → Prop, y = (fun r_6 V_7 => (r_6 = 0 → (Post (none) V_7)) ∧ (¬ (r_6 = 0) → (bO (vO V_7 [7] n_5) (fun o_12 => Post (some n_5) V_7)))) := ⟨_, rfl⟩
    replace h := h K_8 e_K_8
    obtain ⟨o_9, e_10, h⟩ := bO_e h
    have hm := (vO_e e_10).2
    simp only [List.mem_cons, List.not_mem_nil, or_false] at hm
    have KK : ∀ (r_6 : Int32) (V_7 : VS) (H1 : Heap) (locs1 : List Loc), K_8 r_6 V_7 → HV D A V_7 H1 → va_S A s.heap H1 locs1 → W p l e rX1_word_2 s m args below meth c H1 locs1 (0) (0) (MQ below (va_Qq Post (vB D A) A) args s 0 0 A) (F0 m 19 ls (.int r_6 :: [])) := by
      intro r_6 V_7 H locs h hV hS
      rw [e_K_8] at h
      refine lv_if_eq (tgt := 30) hx hb dX1_word_2_19 (by decide) (fun c_11 => ?_) (fun c_11 => ?_)
      · replace h := h.1 c_11
        refine lv_null hx hb dX1_word_2_30 ?_
        exact ve_q (r := none) S hlocks hret (Or.inl ⟨_, rfl⟩) hV hS h (Nat.le_refl _) (Nat.le_refl _) dX1_word_2_31
      · replace h := h.2 c_11
        refine lv_aload hx hb dX1_word_2_22 (lv_at hl 0 rfl) ?_
        obtain ⟨o_12, e_13, h⟩ := bO_e h
        refine v_cast S hK hV e_13 ct_SaidSo_Word q1002 dX1_word_2_24 ?_
        refine lv_goto (tgt := 31) hx hb dX1_word_2_27 (by decide) ?_
        exact ve_q (r := some n_5) S hlocks hret (Or.inl ⟨_, rfl⟩) hV hS h (Nat.le_refl _) (Nat.le_refl _) dX1_word_2_31
    by_cases OC0 : o_9.1 = 7
    · replace h := h.1 OC0
      exact vk_i (vr_U (As := []) (rest := []) S hK hG hA hV hS e_10 OC0 rfl (mvX9_isWord l n_5 V_2 _ h) (va_cwO 0 S.2.2.2.2 (lw_O q984 q986 q985 q988 q989 q162 q990) rfl rfl rfl q991 (by decide +kernel) ⟨Nat.le_of_ble_eq_true rfl, Nat.le_of_ble_eq_true rfl⟩) rfl hl.1 (Nat.le_of_ble_eq_true rfl) dX1_word_2_16 ⟨Nat.le_refl _, Nat.le_refl _⟩) hS KK
    · replace h := h.2 OC0
      have OC1 : o_9.1 = 8 := by omega
      exact vk_i (vr_U (As := []) (rest := []) S hK hG hA hV hS e_10 OC1 rfl (mvX8_isWord l n_5 V_2 _ h) (va_cwU 0 S.2.2.2.2 (lw_U q984 q986 q987 q985 q161 q991) rfl rfl rfl rfl (by decide +kernel) ⟨Nat.le_of_ble_eq_true rfl, Nat.le_of_ble_eq_true rfl⟩) rfl hl.1 (Nat.le_of_ble_eq_true rfl) dX1_word_2_16 ⟨Nat.le_refl _, Nat.le_refl _⟩) hS KK
def vX7_isTaped (cA : Nat → ClassId) (a0 : Nat) (a1 : Int32) (V : VS) (Post : Int32 → VS → Prop) : Prop := bO (gI V [6] a0 4) (fun g_1 => (g_1 = (-1 : Int32) → (Post (0 : Int32) V)) ∧ (¬ (g_1 = (-1 : Int32)) → (bO (gI V [6] a0 4) (fun g_4 => (a1 < g_4 → (Post (0 : Int32) V)) ∧ (¬ (a1 < g_4) → (Post (1 : Int32) V))))))
abbrev rX7_isTaped : Room := { frames := 0, cells := 0, slots := 0, locals := 0 }
theorem cdX7_isTaped : yX7_isTaped.cls = RX7 ∧ yX7_isTaped.cls ≠ "java/lang/invoke/MethodHandle" ∧ yX7_isTaped.cls ≠ "java/lang/invoke/VarHandle" ∧ (parseMethodDescriptor yX7_isTaped.desc).map (fun d => d.parameters.length) = some 1 := by decide +kernel
set_option maxHeartbeats 4000000 in
set_option maxRecDepth 100000 in
theorem mvX7_isTaped (l : Launch) {D : va_G} {cA : Nat → ClassId} {A : Nat → Prop} (a0 : Nat) (a1 : Int32) (V : VS) (Post : Int32 → VS → Prop) (h : vX7_isTaped cA a0 a1 V Post) : Met l yX7_isTaped (ws_ yX7_isTaped cX7_isTaped 2 (some (.boolean))) rX7_isTaped (vPc [.ref a0, .int a1] D cA A V) (va_Qi Post (vB D A) A) 0 0 A := by
  refine vstM (own := RX7) (by decide) rfl (Nat.le_of_ble_eq_true rfl) ?_
  intro p e s m args below meth c ls X hret hV hS hl
  obtain ⟨S, hK, hG, hA, hnm, hlocks⟩ := X
  have hx := S.1
  have hb := S.2.1
  have hl : lv_has ls 2 [(0, .ref a0), (1, .int a1)] := hl
  unfold vX7_isTaped at h
  refine lv_aload_n hx hb dX7_isTaped_0 rfl (lv_at hl 0 rfl) ?_
  obtain ⟨g_1, e_2, h⟩ := bO_e h
  refine vg_i S hK hV fX7_9 e_2 dX7_isTaped_1 ?_
  refine lv_iconst hx hb dX7_isTaped_4 kc_m1 ?_
  refine lv_icmp_eq (tgt := 20) hx hb dX7_isTaped_5 (by decide) (fun c_3 => ?_) (fun c_3 => ?_)
  · replace h := h.1 c_3
    refine lv_iconst hx hb dX7_isTaped_20 kc_0 ?_
    exact ve_i S hlocks hret hV hS h (vz_nar vz_0) (Nat.le_refl _) (Nat.le_refl _) dX7_isTaped_21
  · replace h := h.2 c_3
    refine lv_iload_n hx hb dX7_isTaped_8 rfl (lv_at hl 1 rfl) ?_
    refine lv_aload_n hx hb dX7_isTaped_9 rfl (lv_at hl 0 rfl) ?_
    obtain ⟨g_4, e_5, h⟩ := bO_e h
    refine vg_i S hK hV fX7_9 e_5 dX7_isTaped_10 ?_
    refine lv_icmp_lt (tgt := 20) hx hb dX7_isTaped_13 (by decide) (fun c_6 => ?_) (fun c_6 => ?_)
    · replace h := h.1 c_6
      refine lv_iconst hx hb dX7_isTaped_20 kc_0 ?_
      exact ve_i S hlocks hret hV hS h (vz_nar vz_0) (Nat.le_refl _) (Nat.le_refl _) dX7_isTaped_21
    · replace h := h.2 c_6
      refine lv_iconst hx hb dX7_isTaped_16 kc_1 ?_
      refine lv_goto (tgt := 21) hx hb dX7_isTaped_17 (by decide) ?_
      exact ve_i S hlocks hret hV hS h (vz_nar vz_1) (Nat.le_refl _) (Nat.le_refl _) dX7_isTaped_21
def vX1_counts (cA : Nat → ClassId) (a0 : Nat) (a1 : Nat) (a2 : Int32) (V : VS) (Post : Int32 → VS → Prop) : Prop := (a2 = 0 → (Post (1 : Int32) V)) ∧ (¬ (a2 = 0) → (bO (gR V [7, 8] a1 0) (fun p_2 => bO (gI V [7, 8] a1 4) (fun g_4 => bO p_2 (fun n_6 => bO (vO V [6] n_6) (fun o_9 => vX7_isTaped cA n_6 g_4 V (fun r_7 V_8 => (r_7 = 0 → (Post (0 : Int32) V_8)) ∧ (¬ (r_7 = 0) → (Post (1 : Int32) V_8)))))))))
abbrev rX1_counts : Room := { frames := 1, cells := 0, slots := 0, locals := 21 }
theorem cdX1_counts : yX1_counts.cls = RX1 ∧ yX1_counts.cls ≠ "java/lang/invoke/MethodHandle" ∧ yX1_counts.cls ≠ "java/lang/invoke/VarHandle" ∧ (parseMethodDescriptor yX1_counts.desc).map (fun d => d.parameters.length) = some 2 := by decide +kernel
set_option maxHeartbeats 4000000 in
set_option maxRecDepth 100000 in
theorem mvX1_counts (l : Launch) {D : va_G} {cA : Nat → ClassId} {A : Nat → Prop} (a0 : Nat) (a1 : Nat) (a2 : Int32) (V : VS) (Post : Int32 → VS → Prop) (h : vX1_counts cA a0 a1 a2 V Post) : Met l yX1_counts (ws_ yX1_counts cX1_counts 3 (some (.boolean))) rX1_counts (vPc [.ref a0, .ref a1, .int a2] D cA A V) (va_Qi Post (vB D A) A) 0 0 A := by
  refine vstM (own := RX1) (by decide) rfl (Nat.le_of_ble_eq_true rfl) ?_
  intro p e s m args below meth c ls X hret hV hS hl
  obtain ⟨S, hK, hG, hA, hnm, hlocks⟩ := X
  have hx := S.1
  have hb := S.2.1
  have hl : lv_has ls 3 [(0, .ref a0), (1, .ref a1), (2, .int a2)] := hl
  unfold vX1_counts at h
  refine lv_iload_n hx hb dX1_counts_0 rfl (lv_at hl 2 rfl) ?_
  refine lv_if_eq (tgt := 18) hx hb dX1_counts_1 (by decide) (fun c_1 => ?_) (fun c_1 => ?_)
  · replace h := h.1 c_1
    refine lv_iconst hx hb dX1_counts_18 kc_1 ?_
    refine lv_goto (tgt := 23) hx hb dX1_counts_19 (by decide) ?_
    exact ve_i S hlocks hret hV hS h (vz_nar vz_1) (Nat.le_refl _) (Nat.le_refl _) dX1_counts_23
  · replace h := h.2 c_1
    refine lv_aload_n hx hb dX1_counts_4 rfl (lv_at hl 1 rfl) ?_
    obtain ⟨p_2, e_3, h⟩ := bO_e h
    refine vg_r S hK hV fX1_221 e_3 dX1_counts_5 ?_
    refine lv_aload_n hx hb dX1_counts_8 rfl (lv_at hl 1 rfl) ?_
    obtain ⟨g_4, e_5, h⟩ := bO_e h
    refine vg_i S hK hV fX1_178 e_5 dX1_counts_9 ?_
    obtain ⟨n_6, z_n_6, h9⟩ := bO_e h
    clear h; subst z_n_6; have h := h9; clear h9
    obtain ⟨o_9, e_10, h⟩ := bO_e h
    refine vk_i (vr_V (As := [.int g_4]) (rest := []) S hK hG hA hV hS e_10 rfl (mvX7_isTaped l n_6 g_4 V _ h) (cwV 1 S.2.2.2.2 (lw_V q1060 q1061 q1062 q160 q1063) rfl rfl rfl cdX7_isTaped ⟨Nat.le_of_ble_eq_true rfl, Nat.le_of_ble_eq_true rfl⟩) rfl hl.1 (Nat.le_of_ble_eq_true rfl) dX1_counts_12 ⟨Nat.le_refl _, Nat.le_refl _⟩) hS (fun r_7 V_8 H locs h hV hS => ?_)
    refine lv_if_eq (tgt := 22) hx hb dX1_counts_15 (by decide) (fun c_11 => ?_) (fun c_11 => ?_)
    · replace h := h.1 c_11
      refine lv_iconst hx hb dX1_counts_22 kc_0 ?_
      exact ve_i S hlocks hret hV hS h (vz_nar vz_0) (Nat.le_refl _) (Nat.le_refl _) dX1_counts_23
    · replace h := h.2 c_11
      refine lv_iconst hx hb dX1_counts_18 kc_1 ?_
      refine lv_goto (tgt := 23) hx hb dX1_counts_19 (by decide) ?_
      exact ve_i S hlocks hret hV hS h (vz_nar vz_1) (Nat.le_refl _) (Nat.le_refl _) dX1_counts_23
def vX1_isFirst_c66 (cA : Nat → ClassId) (a0 : Nat) (a1 : Int32) (a2 : Int32) (k18 : Nat → Int32 → VS → Prop) (Post : Int32 → VS → Prop) (x3 : Nat) (x4 : Int32) (V : VS) : Prop := ∀ v_24 : Int32, v_24 = x4 + (1 : Int32) → k18 x3 v_24 V
def vX1_isFirst_l18 (cA : Nat → ClassId) (a0 : Nat) (a1 : Int32) (a2 : Int32) (Post : Int32 → VS → Prop) : Nat → Nat → Int32 → VS → Prop
  | 0, _, _, _ => False
  | n + 1, x3, x4, V => (a1 ≤ x4 → (Post (1 : Int32) V)) ∧ (¬ (a1 ≤ x4) → (bO (gI V [7, 8] x3 2) (fun g_15 => bO (gI V [7, 8] x3 3) (fun g_17 => bO (vO V [1] a0) (fun o_21 => vX1_word_2 cA a0 x4 g_15 g_17 V (fun p_19 V_20 => (p_19 = none → (vX1_isFirst_c66 cA a0 a1 a2 (vX1_isFirst_l18 cA a0 a1 a2 Post n) Post x3 x4 V_20)) ∧ (∀ n_23 : Nat, p_19 = some n_23 → (bO (gR V_20 [1] a0 11) (fun p_25 => bO p_25 (fun n_27 => bO (gR V_20 [3] n_27 2) (fun p_28 => bO p_28 (fun n_30 => bO (vO V_20 [14] n_30) (fun o_33 => vJ2_get cA n_30 x4 V_20 (fun p_31 V_32 => bO p_31 (fun n_35 => bO (vO V_32 [7, 8] n_35) (fun o_36 => bO (vO V_32 [1] a0) (fun o_40 => vX1_counts cA a0 n_35 a2 V_32 (fun r_38 V_39 => (r_38 = 0 → (vX1_isFirst_c66 cA a0 a1 a2 (vX1_isFirst_l18 cA a0 a1 a2 Post n) Post x3 x4 V_39)) ∧ (¬ (r_38 = 0) → (Post (0 : Int32) V_39))))))))))))))))))))
def vX1_isFirst (cA : Nat → ClassId) (a0 : Nat) (a1 : Int32) (a2 : Int32) (V : VS) (Post : Int32 → VS → Prop) : Prop := bO (gR V [1] a0 11) (fun p_1 => bO p_1 (fun n_3 => bO (gR V [3] n_3 2) (fun p_4 => bO p_4 (fun n_6 => bO (vO V [14] n_6) (fun o_9 => vJ2_get cA n_6 a1 V (fun p_7 V_8 => bO p_7 (fun n_11 => bO (vO V_8 [7, 8] n_11) (fun o_12 => ∃ f, vX1_isFirst_l18 cA a0 a1 a2 Post f n_11 (0 : Int32) V_8))))))))
abbrev rX1_isFirst : Room := { frames := 5, cells := 0, slots := 0, locals := 112 }
theorem cdX1_isFirst : yX1_isFirst.cls = RX1 ∧ yX1_isFirst.cls ≠ "java/lang/invoke/MethodHandle" ∧ yX1_isFirst.cls ≠ "java/lang/invoke/VarHandle" ∧ (parseMethodDescriptor yX1_isFirst.desc).map (fun d => d.parameters.length) = some 2 := by decide +kernel
set_option maxHeartbeats 4000000 in
set_option maxRecDepth 100000 in
theorem mvX1_isFirst (l : Launch) {D : va_G} {cA : Nat → ClassId} {A : Nat → Prop} (a0 : Nat) (a1 : Int32) (a2 : Int32) (V : VS) (Post : Int32 → VS → Prop) (h : vX1_isFirst cA a0 a1 a2 V Post) : Met l yX1_isFirst (ws_ yX1_isFirst cX1_isFirst 5 (some (.boolean))) rX1_isFirst (vPc [.ref a0, .int a1, .int a2] D cA A V) (va_Qi Post (vB D A) A) 0 0 A := by
  refine vstM (own := RX1) (by decide) rfl (Nat.le_of_ble_eq_true rfl) ?_
  intro p e s m args below meth c ls X hret hV hS hl
  obtain ⟨S, hK, hG, hA, hnm, hlocks⟩ := X
  have hx := S.1
  have hb := S.2.1
  have hl : lv_has ls 5 [(0, .ref a0), (1, .int a1), (2, .int a2)] := hl
  have C66 : ∀ (k18 : Nat → Int32 → VS → Prop) (K18 : (∀ (x3 : Nat) (x4 : Int32) (V : VS) (H : Heap) (locs : List Loc) (ls : Array Slot), HV D A V H → va_S A s.heap H locs → lv_has ls 5 [(0, .ref a0), (1, .int a1), (2, .int a2), (3, .ref x3), (4, .int x4)] → k18 x3 x4 V → W p l e rX1_isFirst s m args below meth c H locs 0 0 (MQ below (va_Qi Post (vB D A) A) args s 0 0 A) (F0 m 18 ls []))), ∀ (x3 : Nat) (x4 : Int32) (V : VS) (H : Heap) (locs : List Loc) (ls : Array Slot), HV D A V H → va_S A s.heap H locs → lv_has ls 5 [(0, .ref a0), (1, .int a1), (2, .int a2), (3, .ref x3), (4, .int x4)] → vX1_isFirst_c66 cA a0 a1 a2 k18 Post x3 x4 V → W p l e rX1_isFirst s m args below meth c H locs 0 0 (MQ below (va_Qi Post (vB D A) A) args s 0 0 A) (F0 m 66 ls []) := by
    intro k18 K18
    intro x3 x4 V H locs ls hV hS hl h
    unfold vX1_isFirst_c66 at h
    obtain ⟨v_24, e_v_24⟩ : ∃ y : Int32, y = x4 + (1 : Int32) := ⟨_, rfl⟩
    replace h := h v_24 e_v_24
    refine lv_iinc (v := v_24) (lv' := [(4, .int v_24), (0, .ref a0), (1, .int a1), (2, .int a2), (3, .ref x3)]) hx hb dX1_isFirst_66 hl (k := 4) rfl (by rw [kc_1, e_v_24]) (by decide) rfl (fun ls hl => ?_)
    refine lv_goto (tgt := 18) hx hb dX1_isFirst_69 (by decide) ?_
    exact K18 _ _ _ _ _ _ hV hS (lv_sub hl [1, 2, 3, 4, 0] rfl) h
  have L18 : ∀ (n : Nat) (x3 : Nat) (x4 : Int32) (V : VS) (H : Heap) (locs : List Loc) (ls : Array Slot), HV D A V H → va_S A s.heap H locs → lv_has ls 5 [(0, .ref a0), (1, .int a1), (2, .int a2), (3, .ref x3), (4, .int x4)] → vX1_isFirst_l18 cA a0 a1 a2 Post n x3 x4 V → W p l e rX1_isFirst s m args below meth c H locs 0 0 (MQ below (va_Qi Post (vB D A) A) args s 0 0 A) (F0 m 18 ls []) := by
    intro n
    induction n with
    | zero => intro x3 x4 V H locs ls hV hS hl h; rw [vX1_isFirst_l18] at h; exact h.elim
    | succ n ih =>
      intro x3 x4 V H locs ls hV hS hl h
      rw [vX1_isFirst_l18] at h
      refine lv_iload hx hb dX1_isFirst_18 (lv_at hl 4 rfl) ?_
      refine lv_iload_n hx hb dX1_isFirst_20 rfl (lv_at hl 1 rfl) ?_
      refine lv_icmp_ge (tgt := 72) hx hb dX1_isFirst_21 (by decide) (fun c_14 => ?_) (fun c_14 => ?_)
      · replace h := h.1 c_14
        refine lv_iconst hx hb dX1_isFirst_72 kc_1 ?_
        exact ve_i S hlocks hret hV hS h (vz_nar vz_1) (Nat.le_refl _) (Nat.le_refl _) dX1_isFirst_73
      · replace h := h.2 c_14
        refine lv_aload_n hx hb dX1_isFirst_24 rfl (lv_at hl 0 rfl) ?_
        refine lv_iload hx hb dX1_isFirst_25 (lv_at hl 4 rfl) ?_
        refine lv_aload_n hx hb dX1_isFirst_27 rfl (lv_at hl 3 rfl) ?_
        obtain ⟨g_15, e_16, h⟩ := bO_e h
        refine vg_i S hK hV fX1_181 e_16 dX1_isFirst_28 ?_
        refine lv_aload_n hx hb dX1_isFirst_31 rfl (lv_at hl 3 rfl) ?_
        obtain ⟨g_17, e_18, h⟩ := bO_e h
        refine vg_i S hK hV fX1_184 e_18 dX1_isFirst_32 ?_
        obtain ⟨o_21, e_22, h⟩ := bO_e h
        refine vk_q (vr_V (As := [.int x4, .int g_15, .int g_17]) (rest := []) S hK hG hA hV hS e_22 rfl (mvX1_word_2 l a0 x4 g_15 g_17 V _ h) (cwV 3 S.2.2.2.2 (lw_V q1048 q1050 qs38 q139 q1051) rfl rfl rfl cdX1_word_2 ⟨Nat.le_of_ble_eq_true rfl, Nat.le_of_ble_eq_true rfl⟩) rfl hl.1 (Nat.le_of_ble_eq_true rfl) dX1_isFirst_35 ⟨Nat.le_refl _, Nat.le_refl _⟩) hS (fun p_19 V_20 H locs h hV hS => ?_)
        rcases p_19 with _ | n_23
        · replace h := h.1 rfl
          refine lv_ifnullN (tgt := 66) hx hb dX1_isFirst_38 (by decide) ?_
          exact C66 _ ih _ _ _ _ _ _ hV hS (lv_sub hl [0, 1, 2, 3, 4] rfl) h
        · replace h := h.2 n_23 rfl
          refine lv_ifnull hx hb dX1_isFirst_38 ?_
          refine lv_aload_n hx hb dX1_isFirst_41 rfl (lv_at hl 0 rfl) ?_
          refine lv_aload_n hx hb dX1_isFirst_42 rfl (lv_at hl 0 rfl) ?_
          obtain ⟨p_25, e_26, h⟩ := bO_e h
          refine vg_r S hK hV fX1_49 e_26 dX1_isFirst_43 ?_
          obtain ⟨n_27, z_n_27, h9⟩ := bO_e h
          clear h; subst z_n_27; have h := h9; clear h9
          obtain ⟨p_28, e_29, h⟩ := bO_e h
          refine vg_r S hK hV fX1_173 e_29 dX1_isFirst_46 ?_
          refine lv_iload hx hb dX1_isFirst_49 (lv_at hl 4 rfl) ?_
          obtain ⟨n_30, z_n_30, h9⟩ := bO_e h
          clear h; subst z_n_30; have h := h9; clear h9
          obtain ⟨o_33, e_34, h⟩ := bO_e h
          refine vk_q (vr_V (As := [.int x4]) (rest := [.ref a0]) S hK hG hA hV hS e_34 rfl (mvJ2_get l n_30 x4 V_20 _ h) (cwV 1 S.2.2.2.2 (lw_V q973 q608 q609 q144 q610) rfl rfl rfl cdJ2_get ⟨Nat.le_of_ble_eq_true rfl, Nat.le_of_ble_eq_true rfl⟩) rfl hl.1 (Nat.le_of_ble_eq_true rfl) dX1_isFirst_51 ⟨Nat.le_refl _, Nat.le_refl _⟩) hS (fun p_31 V_32 H locs h hV hS => ?_)
          obtain ⟨n_35, z_n_35, h9⟩ := bO_e h
          clear h; subst z_n_35; have h := h9; clear h9
          obtain ⟨o_36, e_37, h⟩ := bO_e h
          refine v_cast S hK hV e_37 ct_SaidSo_Line q983 dX1_isFirst_54 ?_
          refine lv_iload_n hx hb dX1_isFirst_57 rfl (lv_at hl 2 rfl) ?_
          obtain ⟨o_40, e_41, h⟩ := bO_e h
          refine vk_i (vr_V (As := [.ref n_35, .int a2]) (rest := []) S hK hG hA hV hS e_41 rfl (mvX1_counts l a0 n_35 a2 V_32 _ h) (cwV 2 S.2.2.2.2 (lw_V q1056 q1058 qs40 q139 q1059) rfl rfl rfl cdX1_counts ⟨Nat.le_of_ble_eq_true rfl, Nat.le_of_ble_eq_true rfl⟩) rfl hl.1 (Nat.le_of_ble_eq_true rfl) dX1_isFirst_58 ⟨Nat.le_refl _, Nat.le_refl _⟩) hS (fun r_38 V_39 H locs h hV hS => ?_)
          refine lv_if_eq (tgt := 66) hx hb dX1_isFirst_61 (by decide) (fun c_42 => ?_) (fun c_42 => ?_)
          · replace h := h.1 c_42
            exact C66 _ ih _ _ _ _ _ _ hV hS (lv_sub hl [0, 1, 2, 3, 4] rfl) h
          · replace h := h.2 c_42
            refine lv_iconst hx hb dX1_isFirst_64 kc_0 ?_
            exact ve_i S hlocks hret hV hS h (vz_nar vz_0) (Nat.le_refl _) (Nat.le_refl _) dX1_isFirst_65
  unfold vX1_isFirst at h
  refine lv_aload_n hx hb dX1_isFirst_0 rfl (lv_at hl 0 rfl) ?_
  obtain ⟨p_1, e_2, h⟩ := bO_e h
  refine vg_r S hK hV fX1_49 e_2 dX1_isFirst_1 ?_
  obtain ⟨n_3, z_n_3, h9⟩ := bO_e h
  clear h; subst z_n_3; have h := h9; clear h9
  obtain ⟨p_4, e_5, h⟩ := bO_e h
  refine vg_r S hK hV fX1_173 e_5 dX1_isFirst_4 ?_
  refine lv_iload_n hx hb dX1_isFirst_7 rfl (lv_at hl 1 rfl) ?_
  obtain ⟨n_6, z_n_6, h9⟩ := bO_e h
  clear h; subst z_n_6; have h := h9; clear h9
  obtain ⟨o_9, e_10, h⟩ := bO_e h
  refine vk_q (vr_V (As := [.int a1]) (rest := []) S hK hG hA hV hS e_10 rfl (mvJ2_get l n_6 a1 V _ h) (cwV 1 S.2.2.2.2 (lw_V q973 q608 q609 q144 q610) rfl rfl rfl cdJ2_get ⟨Nat.le_of_ble_eq_true rfl, Nat.le_of_ble_eq_true rfl⟩) rfl hl.1 (Nat.le_of_ble_eq_true rfl) dX1_isFirst_8 ⟨Nat.le_refl _, Nat.le_refl _⟩) hS (fun p_7 V_8 H locs h hV hS => ?_)
  obtain ⟨n_11, z_n_11, h9⟩ := bO_e h
  clear h; subst z_n_11; have h := h9; clear h9
  obtain ⟨o_12, e_13, h⟩ := bO_e h
  refine v_cast S hK hV e_13 ct_SaidSo_Line q983 dX1_isFirst_11 ?_
  refine lv_astore_n (lv' := [(3, .ref n_11), (0, .ref a0), (1, .int a1), (2, .int a2)]) hx hb dX1_isFirst_14 rfl hl (by decide) rfl (fun ls hl => ?_)
  refine lv_iconst hx hb dX1_isFirst_15 kc_0 ?_
  refine lv_istore (lv' := [(4, .int (0 : Int32)), (3, .ref n_11), (0, .ref a0), (1, .int a1), (2, .int a2)]) hx hb dX1_isFirst_16 hl (by decide) rfl (fun ls hl => ?_)
  obtain ⟨f, h⟩ := h
  exact L18 f _ _ _ _ _ _ hV hS (lv_sub hl [2, 3, 4, 1, 0] rfl) h
def vX8_isPut (cA : Nat → ClassId) (a0 : Nat) (V : VS) (Post : Int32 → VS → Prop) : Prop := Post (0 : Int32) V
abbrev rX8_isPut : Room := { frames := 0, cells := 0, slots := 0, locals := 0 }
theorem cdX8_isPut : yX8_isPut.cls = RX8 ∧ yX8_isPut.cls ≠ "java/lang/invoke/MethodHandle" ∧ yX8_isPut.cls ≠ "java/lang/invoke/VarHandle" ∧ (parseMethodDescriptor yX8_isPut.desc).map (fun d => d.parameters.length) = some 0 := by decide +kernel
set_option maxHeartbeats 4000000 in
set_option maxRecDepth 100000 in
theorem mvX8_isPut (l : Launch) {D : va_G} {cA : Nat → ClassId} {A : Nat → Prop} (a0 : Nat) (V : VS) (Post : Int32 → VS → Prop) (h : vX8_isPut cA a0 V Post) : Met l yX8_isPut (ws_ yX8_isPut cX8_isPut 1 (some (.boolean))) rX8_isPut (vPc [.ref a0] D cA A V) (va_Qi Post (vB D A) A) 0 0 A := by
  refine vstM (own := RX8) (by decide) rfl (Nat.le_of_ble_eq_true rfl) ?_
  intro p e s m args below meth c ls X hret hV hS hl
  obtain ⟨S, hK, hG, hA, hnm, hlocks⟩ := X
  have hx := S.1
  have hb := S.2.1
  have hl : lv_has ls 1 [(0, .ref a0)] := hl
  unfold vX8_isPut at h
  refine lv_iconst hx hb dX8_isPut_0 kc_0 ?_
  exact ve_i S hlocks hret hV hS h (vz_nar vz_0) (Nat.le_refl _) (Nat.le_refl _) dX8_isPut_1
def vX10_isPut (cA : Nat → ClassId) (a0 : Nat) (V : VS) (Post : Int32 → VS → Prop) : Prop := bO (gI V [8] a0 5) (fun g_1 => (g_1 = (-1 : Int32) → (Post (0 : Int32) V)) ∧ (¬ (g_1 = (-1 : Int32)) → (Post (1 : Int32) V)))
abbrev rX10_isPut : Room := { frames := 0, cells := 0, slots := 0, locals := 0 }
theorem cdX10_isPut : yX10_isPut.cls = RX10 ∧ yX10_isPut.cls ≠ "java/lang/invoke/MethodHandle" ∧ yX10_isPut.cls ≠ "java/lang/invoke/VarHandle" ∧ (parseMethodDescriptor yX10_isPut.desc).map (fun d => d.parameters.length) = some 0 := by decide +kernel
set_option maxHeartbeats 4000000 in
set_option maxRecDepth 100000 in
theorem mvX10_isPut (l : Launch) {D : va_G} {cA : Nat → ClassId} {A : Nat → Prop} (a0 : Nat) (V : VS) (Post : Int32 → VS → Prop) (h : vX10_isPut cA a0 V Post) : Met l yX10_isPut (ws_ yX10_isPut cX10_isPut 1 (some (.boolean))) rX10_isPut (vPc [.ref a0] D cA A V) (va_Qi Post (vB D A) A) 0 0 A := by
  refine vstM (own := RX10) (by decide) rfl (Nat.le_of_ble_eq_true rfl) ?_
  intro p e s m args below meth c ls X hret hV hS hl
  obtain ⟨S, hK, hG, hA, hnm, hlocks⟩ := X
  have hx := S.1
  have hb := S.2.1
  have hl : lv_has ls 1 [(0, .ref a0)] := hl
  unfold vX10_isPut at h
  refine lv_aload_n hx hb dX10_isPut_0 rfl (lv_at hl 0 rfl) ?_
  obtain ⟨g_1, e_2, h⟩ := bO_e h
  refine vg_i S hK hV fX10_9 e_2 dX10_isPut_1 ?_
  refine lv_iconst hx hb dX10_isPut_4 kc_m1 ?_
  refine lv_icmp_eq (tgt := 12) hx hb dX10_isPut_5 (by decide) (fun c_3 => ?_) (fun c_3 => ?_)
  · replace h := h.1 c_3
    refine lv_iconst hx hb dX10_isPut_12 kc_0 ?_
    exact ve_i S hlocks hret hV hS h (vz_nar vz_0) (Nat.le_refl _) (Nat.le_refl _) dX10_isPut_13
  · replace h := h.2 c_3
    refine lv_iconst hx hb dX10_isPut_8 kc_1 ?_
    refine lv_goto (tgt := 13) hx hb dX10_isPut_9 (by decide) ?_
    exact ve_i S hlocks hret hV hS h (vz_nar vz_1) (Nat.le_refl _) (Nat.le_refl _) dX10_isPut_13
def vX1_ledBy_c65 (cA : Nat → ClassId) (a0 : Nat) (a1 : Int32) (k19 : Nat → Int32 → VS → Prop) (Post : Int32 → VS → Prop) (x2 : Nat) (x3 : Int32) (V : VS) : Prop := ∀ v_25 : Int32, v_25 = x3 + (-1 : Int32) → k19 x2 v_25 V
def vX1_ledBy_l19 (cA : Nat → ClassId) (a0 : Nat) (a1 : Int32) (Post : Int32 → VS → Prop) : Nat → Nat → Int32 → VS → Prop
  | 0, _, _, _ => False
  | n + 1, x2, x3, V => (x3 < 0 → (Post (-1 : Int32) V)) ∧ (¬ (x3 < 0) → (bO (gI V [7, 8] x2 2) (fun g_16 => bO (gI V [7, 8] x2 3) (fun g_18 => bO (vO V [1] a0) (fun o_22 => vX1_heard cA a0 x3 g_16 g_18 V (fun p_20 V_21 => (p_20 = none → (vX1_ledBy_c65 cA a0 a1 (vX1_ledBy_l19 cA a0 a1 Post n) Post x2 x3 V_21)) ∧ (∀ n_24 : Nat, p_20 = some n_24 → (∀ K_28 : Int32 → VS → Prop, K_28 = (fun r_26 V_27 => (r_26 = 0 → (vX1_ledBy_c65 cA a0 a1 (vX1_ledBy_l19 cA a0 a1 Post n) Post x2 x3 V_27)) ∧ (¬ (r_26 = 0) → (bO (gI V_27 [7, 8] n_24 5) (fun g_32 => bO (gI V_27 [7, 8] x2 5) (fun g_34 => (g_32 = g_34 → (Post x3 V_27)) ∧ (¬ (g_32 = g_34) → (vX1_ledBy_c65 cA a0 a1 (vX1_ledBy_l19 cA a0 a1 Post n) Post x2 x3 V_27))))))) → bO (vO V_21 [7, 8] n_24) (fun o_29 => (o_29.1 = 7 → vX8_isPut cA n_24 V_21 K_28) ∧ (¬ o_29.1 = 7 → vX10_isPut cA n_24 V_21 K_28))))))))))
def vX1_ledBy (cA : Nat → ClassId) (a0 : Nat) (a1 : Int32) (V : VS) (Post : Int32 → VS → Prop) : Prop := bO (gR V [1] a0 11) (fun p_1 => bO p_1 (fun n_3 => bO (gR V [3] n_3 2) (fun p_4 => bO p_4 (fun n_6 => bO (vO V [14] n_6) (fun o_9 => vJ2_get cA n_6 a1 V (fun p_7 V_8 => bO p_7 (fun n_11 => bO (vO V_8 [7, 8] n_11) (fun o_12 => ∀ v_14 : Int32, v_14 = a1 - (1 : Int32) → ∃ f, vX1_ledBy_l19 cA a0 a1 Post f n_11 v_14 V_8))))))))
abbrev rX1_ledBy : Room := { frames := 4, cells := 0, slots := 0, locals := 88 }
theorem cdX1_ledBy : yX1_ledBy.cls = RX1 ∧ yX1_ledBy.cls ≠ "java/lang/invoke/MethodHandle" ∧ yX1_ledBy.cls ≠ "java/lang/invoke/VarHandle" ∧ (parseMethodDescriptor yX1_ledBy.desc).map (fun d => d.parameters.length) = some 1 := by decide +kernel
set_option maxHeartbeats 4000000 in
set_option maxRecDepth 100000 in
theorem mvX1_ledBy (l : Launch) {D : va_G} {cA : Nat → ClassId} {A : Nat → Prop} (a0 : Nat) (a1 : Int32) (V : VS) (Post : Int32 → VS → Prop) (h : vX1_ledBy cA a0 a1 V Post) : Met l yX1_ledBy (ws_ yX1_ledBy cX1_ledBy 5 (some (.int))) rX1_ledBy (vPc [.ref a0, .int a1] D cA A V) (va_Qi Post (vB D A) A) 0 0 A := by
  refine vstM (own := RX1) (by decide) rfl (Nat.le_of_ble_eq_true rfl) ?_
  intro p e s m args below meth c ls X hret hV hS hl
  obtain ⟨S, hK, hG, hA, hnm, hlocks⟩ := X
  have hx := S.1
  have hb := S.2.1
  have hl : lv_has ls 5 [(0, .ref a0), (1, .int a1)] := hl
  have C65 : ∀ (k19 : Nat → Int32 → VS → Prop) (K19 : (∀ (x2 : Nat) (x3 : Int32) (V : VS) (H : Heap) (locs : List Loc) (ls : Array Slot), HV D A V H → va_S A s.heap H locs → lv_has ls 5 [(0, .ref a0), (1, .int a1), (2, .ref x2), (3, .int x3)] → k19 x2 x3 V → W p l e rX1_ledBy s m args below meth c H locs 0 0 (MQ below (va_Qi Post (vB D A) A) args s 0 0 A) (F0 m 19 ls []))), ∀ (x2 : Nat) (x3 : Int32) (V : VS) (H : Heap) (locs : List Loc) (ls : Array Slot), HV D A V H → va_S A s.heap H locs → lv_has ls 5 [(0, .ref a0), (1, .int a1), (2, .ref x2), (3, .int x3)] → vX1_ledBy_c65 cA a0 a1 k19 Post x2 x3 V → W p l e rX1_ledBy s m args below meth c H locs 0 0 (MQ below (va_Qi Post (vB D A) A) args s 0 0 A) (F0 m 65 ls []) := by
    intro k19 K19
    intro x2 x3 V H locs ls hV hS hl h
    unfold vX1_ledBy_c65 at h
    obtain ⟨v_25, e_v_25⟩ : ∃ y : Int32, y = x3 + (-1 : Int32) := ⟨_, rfl⟩
    replace h := h v_25 e_v_25
    refine lv_iinc (v := v_25) (lv' := [(3, .int v_25), (0, .ref a0), (1, .int a1), (2, .ref x2)]) hx hb dX1_ledBy_65 hl (k := 3) rfl (by rw [kc_m1, e_v_25]) (by decide) rfl (fun ls hl => ?_)
    refine lv_goto (tgt := 19) hx hb dX1_ledBy_68 (by decide) ?_
    exact K19 _ _ _ _ _ _ hV hS (lv_sub hl [1, 2, 3, 0] rfl) h
  have L19 : ∀ (n : Nat) (x2 : Nat) (x3 : Int32) (V : VS) (H : Heap) (locs : List Loc) (ls : Array Slot), HV D A V H → va_S A s.heap H locs → lv_has ls 5 [(0, .ref a0), (1, .int a1), (2, .ref x2), (3, .int x3)] → vX1_ledBy_l19 cA a0 a1 Post n x2 x3 V → W p l e rX1_ledBy s m args below meth c H locs 0 0 (MQ below (va_Qi Post (vB D A) A) args s 0 0 A) (F0 m 19 ls []) := by
    intro n
    induction n with
    | zero => intro x2 x3 V H locs ls hV hS hl h; rw [vX1_ledBy_l19] at h; exact h.elim
    | succ n ih =>
      intro x2 x3 V H locs ls hV hS hl h
      rw [vX1_ledBy_l19] at h
      refine lv_iload_n hx hb dX1_ledBy_19 rfl (lv_at hl 3 rfl) ?_
      refine lv_if_lt (tgt := 71) hx hb dX1_ledBy_20 (by decide) (fun c_15 => ?_) (fun c_15 => ?_)
      · replace h := h.1 c_15
        refine lv_iconst hx hb dX1_ledBy_71 kc_m1 ?_
        exact ve_i S hlocks hret hV hS h rfl (Nat.le_refl _) (Nat.le_refl _) dX1_ledBy_72
      · replace h := h.2 c_15
        refine lv_aload_n hx hb dX1_ledBy_23 rfl (lv_at hl 0 rfl) ?_
        refine lv_iload_n hx hb dX1_ledBy_24 rfl (lv_at hl 3 rfl) ?_
        refine lv_aload_n hx hb dX1_ledBy_25 rfl (lv_at hl 2 rfl) ?_
        obtain ⟨g_16, e_17, h⟩ := bO_e h
        refine vg_i S hK hV fX1_181 e_17 dX1_ledBy_26 ?_
        refine lv_aload_n hx hb dX1_ledBy_29 rfl (lv_at hl 2 rfl) ?_
        obtain ⟨g_18, e_19, h⟩ := bO_e h
        refine vg_i S hK hV fX1_184 e_19 dX1_ledBy_30 ?_
        obtain ⟨o_22, e_23, h⟩ := bO_e h
        refine vk_q (vr_V (As := [.int x3, .int g_16, .int g_18]) (rest := []) S hK hG hA hV hS e_23 rfl (mvX1_heard l a0 x3 g_16 g_18 V _ h) (cwV 3 S.2.2.2.2 (lw_V q1052 q1054 qs39 q139 q1055) rfl rfl rfl cdX1_heard ⟨Nat.le_of_ble_eq_true rfl, Nat.le_of_ble_eq_true rfl⟩) rfl hl.1 (Nat.le_of_ble_eq_true rfl) dX1_ledBy_33 ⟨Nat.le_refl _, Nat.le_refl _⟩) hS (fun p_20 V_21 H locs h hV hS => ?_)
        refine lv_astoreQ (r := p_20) (lv' := [(4, va_rf p_20), (0, .ref a0), (1, .int a1), (2, .ref x2), (3, .int x3)]) hx hb dX1_ledBy_36 hl (by decide) rfl (fun ls hl => ?_)
        refine lv_aloadQ hx hb dX1_ledBy_38 (lv_at hl 0 rfl) ?_
        rcases p_20 with _ | n_24
        · replace h := h.1 rfl
          refine lv_ifnullN (tgt := 65) hx hb dX1_ledBy_40 (by decide) ?_
          exact C65 _ ih _ _ _ _ _ _ hV hS (lv_sub hl [1, 2, 3, 4] rfl) h
        · replace h := h.2 n_24 rfl
          refine lv_ifnull hx hb dX1_ledBy_40 ?_
          refine lv_aload hx hb dX1_ledBy_43 (lv_at hl 0 rfl) ?_
          obtain ⟨K_28, e_K_28⟩ : ∃ y : Int32 → VS → Prop, y = (fun r_26 V_27 => (r_26 = 0 → (vX1_ledBy_c65 cA a0 a1 (vX1_ledBy_l19 cA a0 a1 Post n) Post x2 x3 V_27)) ∧ (¬ (r_26 = 0) → (bO (gI V_27 [7, 8] n_24 5) (fun g_32 => bO (gI V_27 [7, 8] x2 5) (fun g_34 => (g_32 = g_34 → (Post x3 V_27)) ∧ (¬ (g_32 = g_34) → (vX1_ledBy_c65 cA a0 a1 (vX1_ledBy_l19 cA a0 a1 Post n) Post x2 x3 V_27))))))) := ⟨_, rfl⟩
          replace h := h K_28 e_K_28
          obtain ⟨o_29, e_30, h⟩ := bO_e h
          have hm := (vO_e e_30).2
          simp only [List.mem_cons, List.not_mem_nil, or_false] at hm
          have KK : ∀ (r_26 : Int32) (V_27 : VS) (H1 : Heap) (locs1 : List Loc), K_28 r_26 V_27 → HV D A V_27 H1 → va_S A s.heap H1 locs1 → W p l e rX1_ledBy s m args below meth c H1 locs1 (0) (0) (MQ below (va_Qi Post (vB D A) A) args s 0 0 A) (F0 m 48 ls (.int r_26 :: [])) := by
            intro r_26 V_27 H locs h hV hS
            rw [e_K_28] at h
            refine lv_if_eq (tgt := 65) hx hb dX1_ledBy_48 (by decide) (fun c_31 => ?_) (fun c_31 => ?_)
            · replace h := h.1 c_31
              exact C65 _ ih _ _ _ _ _ _ hV hS (lv_sub hl [1, 2, 3, 4] rfl) h
            · replace h := h.2 c_31
              refine lv_aload hx hb dX1_ledBy_51 (lv_at hl 0 rfl) ?_
              obtain ⟨g_32, e_33, h⟩ := bO_e h
              refine vg_i S hK hV fX1_199 e_33 dX1_ledBy_53 ?_
              refine lv_aload_n hx hb dX1_ledBy_56 rfl (lv_at hl 3 rfl) ?_
              obtain ⟨g_34, e_35, h⟩ := bO_e h
              refine vg_i S hK hV fX1_199 e_35 dX1_ledBy_57 ?_
              refine lv_icmp_ne (tgt := 65) hx hb dX1_ledBy_60 (by decide) (fun c_36 => ?_) (fun c_36 => ?_)
              · replace h := h.2 c_36
                exact C65 _ ih _ _ _ _ _ _ hV hS (lv_sub hl [1, 2, 3, 4] rfl) h
              · replace h := h.1 c_36
                refine lv_iload_n hx hb dX1_ledBy_63 rfl (lv_at hl 4 rfl) ?_
                exact ve_i S hlocks hret hV hS h rfl (Nat.le_refl _) (Nat.le_refl _) dX1_ledBy_64
          by_cases OC0 : o_29.1 = 7
          · replace h := h.1 OC0
            exact vk_i (vr_U (As := []) (rest := []) S hK hG hA hV hS e_30 OC0 rfl (mvX8_isPut l n_24 V_21 _ h) (va_cwU 0 S.2.2.2.2 (lw_U q1068 q1070 q1074 q1069 q161 q1075) rfl rfl rfl rfl (by decide +kernel) ⟨Nat.le_of_ble_eq_true rfl, Nat.le_of_ble_eq_true rfl⟩) rfl hl.1 (Nat.le_of_ble_eq_true rfl) dX1_ledBy_45 ⟨Nat.le_refl _, Nat.le_refl _⟩) hS KK
          · replace h := h.2 OC0
            have OC1 : o_29.1 = 8 := by omega
            exact vk_i (vr_U (As := []) (rest := []) S hK hG hA hV hS e_30 OC1 rfl (mvX10_isPut l n_24 V_21 _ h) (va_cwO 0 S.2.2.2.2 (lw_O q1068 q1070 q1069 q1071 q1072 q163 q1073) rfl rfl rfl q1075 (by decide +kernel) ⟨Nat.le_of_ble_eq_true rfl, Nat.le_of_ble_eq_true rfl⟩) rfl hl.1 (Nat.le_of_ble_eq_true rfl) dX1_ledBy_45 ⟨Nat.le_refl _, Nat.le_refl _⟩) hS KK
  unfold vX1_ledBy at h
  refine lv_aload_n hx hb dX1_ledBy_0 rfl (lv_at hl 0 rfl) ?_
  obtain ⟨p_1, e_2, h⟩ := bO_e h
  refine vg_r S hK hV fX1_49 e_2 dX1_ledBy_1 ?_
  obtain ⟨n_3, z_n_3, h9⟩ := bO_e h
  clear h; subst z_n_3; have h := h9; clear h9
  obtain ⟨p_4, e_5, h⟩ := bO_e h
  refine vg_r S hK hV fX1_173 e_5 dX1_ledBy_4 ?_
  refine lv_iload_n hx hb dX1_ledBy_7 rfl (lv_at hl 1 rfl) ?_
  obtain ⟨n_6, z_n_6, h9⟩ := bO_e h
  clear h; subst z_n_6; have h := h9; clear h9
  obtain ⟨o_9, e_10, h⟩ := bO_e h
  refine vk_q (vr_V (As := [.int a1]) (rest := []) S hK hG hA hV hS e_10 rfl (mvJ2_get l n_6 a1 V _ h) (cwV 1 S.2.2.2.2 (lw_V q973 q608 q609 q144 q610) rfl rfl rfl cdJ2_get ⟨Nat.le_of_ble_eq_true rfl, Nat.le_of_ble_eq_true rfl⟩) rfl hl.1 (Nat.le_of_ble_eq_true rfl) dX1_ledBy_8 ⟨Nat.le_refl _, Nat.le_refl _⟩) hS (fun p_7 V_8 H locs h hV hS => ?_)
  obtain ⟨n_11, z_n_11, h9⟩ := bO_e h
  clear h; subst z_n_11; have h := h9; clear h9
  obtain ⟨o_12, e_13, h⟩ := bO_e h
  refine v_cast S hK hV e_13 ct_SaidSo_Line q983 dX1_ledBy_11 ?_
  refine lv_astore_n (lv' := [(2, .ref n_11), (0, .ref a0), (1, .int a1)]) hx hb dX1_ledBy_14 rfl hl (by decide) rfl (fun ls hl => ?_)
  refine lv_iload_n hx hb dX1_ledBy_15 rfl (lv_at hl 2 rfl) ?_
  refine lv_iconst hx hb dX1_ledBy_16 kc_1 ?_
  refine lv_isub hx hb dX1_ledBy_17 ?_
  refine lv_topi (fun v_14 e_v_14 => ?_)
  replace h := h v_14 e_v_14
  refine lv_istore_n (lv' := [(3, .int v_14), (2, .ref n_11), (0, .ref a0), (1, .int a1)]) hx hb dX1_ledBy_18 rfl hl (by decide) rfl (fun ls hl => ?_)
  obtain ⟨f, h⟩ := h
  exact L19 f _ _ _ _ _ _ hV hS (lv_sub hl [2, 3, 1, 0] rfl) h
def vX6_isPublic (cA : Nat → ClassId) (a0 : Nat) (a1 : Int32) (V : VS) (Post : Int32 → VS → Prop) : Prop := bO (gI V [5] a0 3) (fun g_1 => (g_1 = (-1 : Int32) → (Post (0 : Int32) V)) ∧ (¬ (g_1 = (-1 : Int32)) → (bO (gI V [5] a0 3) (fun g_4 => (a1 < g_4 → (Post (0 : Int32) V)) ∧ (¬ (a1 < g_4) → (Post (1 : Int32) V))))))
abbrev rX6_isPublic : Room := { frames := 0, cells := 0, slots := 0, locals := 0 }
theorem cdX6_isPublic : yX6_isPublic.cls = RX6 ∧ yX6_isPublic.cls ≠ "java/lang/invoke/MethodHandle" ∧ yX6_isPublic.cls ≠ "java/lang/invoke/VarHandle" ∧ (parseMethodDescriptor yX6_isPublic.desc).map (fun d => d.parameters.length) = some 1 := by decide +kernel
set_option maxHeartbeats 4000000 in
set_option maxRecDepth 100000 in
theorem mvX6_isPublic (l : Launch) {D : va_G} {cA : Nat → ClassId} {A : Nat → Prop} (a0 : Nat) (a1 : Int32) (V : VS) (Post : Int32 → VS → Prop) (h : vX6_isPublic cA a0 a1 V Post) : Met l yX6_isPublic (ws_ yX6_isPublic cX6_isPublic 2 (some (.boolean))) rX6_isPublic (vPc [.ref a0, .int a1] D cA A V) (va_Qi Post (vB D A) A) 0 0 A := by
  refine vstM (own := RX6) (by decide) rfl (Nat.le_of_ble_eq_true rfl) ?_
  intro p e s m args below meth c ls X hret hV hS hl
  obtain ⟨S, hK, hG, hA, hnm, hlocks⟩ := X
  have hx := S.1
  have hb := S.2.1
  have hl : lv_has ls 2 [(0, .ref a0), (1, .int a1)] := hl
  unfold vX6_isPublic at h
  refine lv_aload_n hx hb dX6_isPublic_0 rfl (lv_at hl 0 rfl) ?_
  obtain ⟨g_1, e_2, h⟩ := bO_e h
  refine vg_i S hK hV fX6_9 e_2 dX6_isPublic_1 ?_
  refine lv_iconst hx hb dX6_isPublic_4 kc_m1 ?_
  refine lv_icmp_eq (tgt := 20) hx hb dX6_isPublic_5 (by decide) (fun c_3 => ?_) (fun c_3 => ?_)
  · replace h := h.1 c_3
    refine lv_iconst hx hb dX6_isPublic_20 kc_0 ?_
    exact ve_i S hlocks hret hV hS h (vz_nar vz_0) (Nat.le_refl _) (Nat.le_refl _) dX6_isPublic_21
  · replace h := h.2 c_3
    refine lv_aload_n hx hb dX6_isPublic_8 rfl (lv_at hl 0 rfl) ?_
    obtain ⟨g_4, e_5, h⟩ := bO_e h
    refine vg_i S hK hV fX6_9 e_5 dX6_isPublic_9 ?_
    refine lv_iload_n hx hb dX6_isPublic_12 rfl (lv_at hl 1 rfl) ?_
    refine lv_icmp_gt (tgt := 20) hx hb dX6_isPublic_13 (by decide) (fun c_6 => ?_) (fun c_6 => ?_)
    · replace h := h.1 c_6
      refine lv_iconst hx hb dX6_isPublic_20 kc_0 ?_
      exact ve_i S hlocks hret hV hS h (vz_nar vz_0) (Nat.le_refl _) (Nat.le_refl _) dX6_isPublic_21
    · replace h := h.2 c_6
      refine lv_iconst hx hb dX6_isPublic_16 kc_1 ?_
      refine lv_goto (tgt := 21) hx hb dX6_isPublic_17 (by decide) ?_
      exact ve_i S hlocks hret hV hS h (vz_nar vz_1) (Nat.le_refl _) (Nat.le_refl _) dX6_isPublic_21
def vX9_isPublic (cA : Nat → ClassId) (a0 : Nat) (V : VS) (Post : Int32 → VS → Prop) : Prop := bO (vO V [7] a0) (fun o_3 => vX9_isRight cA a0 V (fun r_1 V_2 => (r_1 = 0 → (Post (0 : Int32) V_2)) ∧ (¬ (r_1 = 0) → (bO (gR V_2 [7] a0 1) (fun p_6 => bO (gI V_2 [7] a0 4) (fun g_8 => bO p_6 (fun n_10 => bO (vO V_2 [5] n_10) (fun o_13 => vX6_isPublic cA n_10 g_8 V_2 (fun r_11 V_12 => (r_11 = 0 → (Post (0 : Int32) V_12)) ∧ (¬ (r_11 = 0) → (Post (1 : Int32) V_12)))))))))))
abbrev rX9_isPublic : Room := { frames := 1, cells := 0, slots := 0, locals := 21 }
theorem cdX9_isPublic : yX9_isPublic.cls = RX9 ∧ yX9_isPublic.cls ≠ "java/lang/invoke/MethodHandle" ∧ yX9_isPublic.cls ≠ "java/lang/invoke/VarHandle" ∧ (parseMethodDescriptor yX9_isPublic.desc).map (fun d => d.parameters.length) = some 0 := by decide +kernel
set_option maxHeartbeats 4000000 in
set_option maxRecDepth 100000 in
theorem mvX9_isPublic (l : Launch) {D : va_G} {cA : Nat → ClassId} {A : Nat → Prop} (a0 : Nat) (V : VS) (Post : Int32 → VS → Prop) (h : vX9_isPublic cA a0 V Post) : Met l yX9_isPublic (ws_ yX9_isPublic cX9_isPublic 1 (some (.boolean))) rX9_isPublic (vPc [.ref a0] D cA A V) (va_Qi Post (vB D A) A) 0 0 A := by
  refine vstM (own := RX9) (by decide) rfl (Nat.le_of_ble_eq_true rfl) ?_
  intro p e s m args below meth c ls X hret hV hS hl
  obtain ⟨S, hK, hG, hA, hnm, hlocks⟩ := X
  have hx := S.1
  have hb := S.2.1
  have hl : lv_has ls 1 [(0, .ref a0)] := hl
  unfold vX9_isPublic at h
  refine lv_aload_n hx hb dX9_isPublic_0 rfl (lv_at hl 0 rfl) ?_
  obtain ⟨o_3, e_4, h⟩ := bO_e h
  refine vk_i (vr_V (As := []) (rest := []) S hK hG hA hV hS e_4 rfl (mvX9_isRight l a0 V _ h) (cwV 0 S.2.2.2.2 (lw_V q1080 q1041 q1042 q162 q1043) rfl rfl rfl cdX9_isRight ⟨Nat.le_of_ble_eq_true rfl, Nat.le_of_ble_eq_true rfl⟩) rfl hl.1 (Nat.le_of_ble_eq_true rfl) dX9_isPublic_1 ⟨Nat.le_refl _, Nat.le_refl _⟩) hS (fun r_1 V_2 H locs h hV hS => ?_)
  refine lv_if_eq (tgt := 25) hx hb dX9_isPublic_4 (by decide) (fun c_5 => ?_) (fun c_5 => ?_)
  · replace h := h.1 c_5
    refine lv_iconst hx hb dX9_isPublic_25 kc_0 ?_
    exact ve_i S hlocks hret hV hS h (vz_nar vz_0) (Nat.le_refl _) (Nat.le_refl _) dX9_isPublic_26
  · replace h := h.2 c_5
    refine lv_aload_n hx hb dX9_isPublic_7 rfl (lv_at hl 0 rfl) ?_
    obtain ⟨p_6, e_7, h⟩ := bO_e h
    refine vg_r S hK hV fX9_13 e_7 dX9_isPublic_8 ?_
    refine lv_aload_n hx hb dX9_isPublic_11 rfl (lv_at hl 0 rfl) ?_
    obtain ⟨g_8, e_9, h⟩ := bO_e h
    refine vg_i S hK hV fX9_26 e_9 dX9_isPublic_12 ?_
    obtain ⟨n_10, z_n_10, h9⟩ := bO_e h
    clear h; subst z_n_10; have h := h9; clear h9
    obtain ⟨o_13, e_14, h⟩ := bO_e h
    refine vk_i (vr_V (As := [.int g_8]) (rest := []) S hK hG hA hV hS e_14 rfl (mvX6_isPublic l n_10 g_8 V_2 _ h) (cwV 1 S.2.2.2.2 (lw_V q1081 q1082 q1083 q156 q1084) rfl rfl rfl cdX6_isPublic ⟨Nat.le_of_ble_eq_true rfl, Nat.le_of_ble_eq_true rfl⟩) rfl hl.1 (Nat.le_of_ble_eq_true rfl) dX9_isPublic_15 ⟨Nat.le_refl _, Nat.le_refl _⟩) hS (fun r_11 V_12 H locs h hV hS => ?_)
    refine lv_if_eq (tgt := 25) hx hb dX9_isPublic_18 (by decide) (fun c_15 => ?_) (fun c_15 => ?_)
    · replace h := h.1 c_15
      refine lv_iconst hx hb dX9_isPublic_25 kc_0 ?_
      exact ve_i S hlocks hret hV hS h (vz_nar vz_0) (Nat.le_refl _) (Nat.le_refl _) dX9_isPublic_26
    · replace h := h.2 c_15
      refine lv_iconst hx hb dX9_isPublic_21 kc_1 ?_
      refine lv_goto (tgt := 26) hx hb dX9_isPublic_22 (by decide) ?_
      exact ve_i S hlocks hret hV hS h (vz_nar vz_1) (Nat.le_refl _) (Nat.le_refl _) dX9_isPublic_26
def vX7_lastOff (cA : Nat → ClassId) (a0 : Nat) (a1 : Int32) (V : VS) (Post : Int32 → VS → Prop) : Prop := bO (gI V [6] a0 4) (fun g_1 => (g_1 = (-1 : Int32) → (Post a1 V)) ∧ (¬ (g_1 = (-1 : Int32)) → (bO (gI V [6] a0 4) (fun g_4 => ∀ v_6 : Int32, v_6 = (if (g_4 - (1 : Int32)) < a1 then (g_4 - (1 : Int32)) else a1) → Post v_6 V))))
abbrev rX7_lastOff : Room := { frames := 1, cells := 0, slots := 0, locals := 24 }
theorem cdX7_lastOff : yX7_lastOff.cls = RX7 ∧ yX7_lastOff.cls ≠ "java/lang/invoke/MethodHandle" ∧ yX7_lastOff.cls ≠ "java/lang/invoke/VarHandle" ∧ (parseMethodDescriptor yX7_lastOff.desc).map (fun d => d.parameters.length) = some 1 := by decide +kernel
set_option maxHeartbeats 4000000 in
set_option maxRecDepth 100000 in
theorem mvX7_lastOff (l : Launch) {D : va_G} {cA : Nat → ClassId} {A : Nat → Prop} (a0 : Nat) (a1 : Int32) (V : VS) (Post : Int32 → VS → Prop) (h : vX7_lastOff cA a0 a1 V Post) : Met l yX7_lastOff (ws_ yX7_lastOff cX7_lastOff 2 (some (.int))) rX7_lastOff (vPc [.ref a0, .int a1] D cA A V) (va_Qi Post (vB D A) A) 0 0 A := by
  refine vstM (own := RX7) (by decide) rfl (Nat.le_of_ble_eq_true rfl) ?_
  intro p e s m args below meth c ls X hret hV hS hl
  obtain ⟨S, hK, hG, hA, hnm, hlocks⟩ := X
  have hx := S.1
  have hb := S.2.1
  have hl : lv_has ls 2 [(0, .ref a0), (1, .int a1)] := hl
  unfold vX7_lastOff at h
  refine lv_aload_n hx hb dX7_lastOff_0 rfl (lv_at hl 0 rfl) ?_
  obtain ⟨g_1, e_2, h⟩ := bO_e h
  refine vg_i S hK hV fX7_9 e_2 dX7_lastOff_1 ?_
  refine lv_iconst hx hb dX7_lastOff_4 kc_m1 ?_
  refine lv_icmp_ne (tgt := 12) hx hb dX7_lastOff_5 (by decide) (fun c_3 => ?_) (fun c_3 => ?_)
  · replace h := h.2 c_3
    refine lv_iload_n hx hb dX7_lastOff_12 rfl (lv_at hl 1 rfl) ?_
    refine lv_aload_n hx hb dX7_lastOff_13 rfl (lv_at hl 0 rfl) ?_
    obtain ⟨g_4, e_5, h⟩ := bO_e h
    refine vg_i S hK hV fX7_9 e_5 dX7_lastOff_14 ?_
    refine lv_iconst hx hb dX7_lastOff_17 kc_1 ?_
    refine lv_isub hx hb dX7_lastOff_18 ?_
    refine va_mmin hx hb (S.2.2.1.trans hl.1.symm) S.2.2.2.1 (S.2.2.2.2 _ q1093) (S.2.2.2.2 _ q467) (S.2.2.2.2 _ q150) (S.2.2.2.2 _ q468) (Nat.le_of_ble_eq_true rfl) (Nat.le_of_ble_eq_true rfl) (Nat.le_refl _) (Nat.le_refl _) dX7_lastOff_19 ?_
    refine lv_topi (fun v_6 e_v_6 => ?_)
    replace h := h v_6 e_v_6
    exact ve_i S hlocks hret hV hS h rfl (Nat.le_refl _) (Nat.le_refl _) dX7_lastOff_22
  · replace h := h.1 c_3
    refine lv_iload_n hx hb dX7_lastOff_8 rfl (lv_at hl 1 rfl) ?_
    refine lv_goto (tgt := 22) hx hb dX7_lastOff_9 (by decide) ?_
    exact ve_i S hlocks hret hV hS h rfl (Nat.le_refl _) (Nat.le_refl _) dX7_lastOff_22
def vX6_isPolice (cA : Nat → ClassId) (a0 : Nat) (a1 : Int32) (V : VS) (Post : Int32 → VS → Prop) : Prop := bO (gI V [5] a0 4) (fun g_1 => (g_1 = (-1 : Int32) → (Post (0 : Int32) V)) ∧ (¬ (g_1 = (-1 : Int32)) → (bO (gI V [5] a0 4) (fun g_4 => (a1 < g_4 → (Post (0 : Int32) V)) ∧ (¬ (a1 < g_4) → (Post (1 : Int32) V))))))
abbrev rX6_isPolice : Room := { frames := 0, cells := 0, slots := 0, locals := 0 }
theorem cdX6_isPolice : yX6_isPolice.cls = RX6 ∧ yX6_isPolice.cls ≠ "java/lang/invoke/MethodHandle" ∧ yX6_isPolice.cls ≠ "java/lang/invoke/VarHandle" ∧ (parseMethodDescriptor yX6_isPolice.desc).map (fun d => d.parameters.length) = some 1 := by decide +kernel
set_option maxHeartbeats 4000000 in
set_option maxRecDepth 100000 in
theorem mvX6_isPolice (l : Launch) {D : va_G} {cA : Nat → ClassId} {A : Nat → Prop} (a0 : Nat) (a1 : Int32) (V : VS) (Post : Int32 → VS → Prop) (h : vX6_isPolice cA a0 a1 V Post) : Met l yX6_isPolice (ws_ yX6_isPolice cX6_isPolice 2 (some (.boolean))) rX6_isPolice (vPc [.ref a0, .int a1] D cA A V) (va_Qi Post (vB D A) A) 0 0 A := by
  refine vstM (own := RX6) (by decide) rfl (Nat.le_of_ble_eq_true rfl) ?_
  intro p e s m args below meth c ls X hret hV hS hl
  obtain ⟨S, hK, hG, hA, hnm, hlocks⟩ := X
  have hx := S.1
  have hb := S.2.1
  have hl : lv_has ls 2 [(0, .ref a0), (1, .int a1)] := hl
  unfold vX6_isPolice at h
  refine lv_aload_n hx hb dX6_isPolice_0 rfl (lv_at hl 0 rfl) ?_
  obtain ⟨g_1, e_2, h⟩ := bO_e h
  refine vg_i S hK hV fX6_15 e_2 dX6_isPolice_1 ?_
  refine lv_iconst hx hb dX6_isPolice_4 kc_m1 ?_
  refine lv_icmp_eq (tgt := 20) hx hb dX6_isPolice_5 (by decide) (fun c_3 => ?_) (fun c_3 => ?_)
  · replace h := h.1 c_3
    refine lv_iconst hx hb dX6_isPolice_20 kc_0 ?_
    exact ve_i S hlocks hret hV hS h (vz_nar vz_0) (Nat.le_refl _) (Nat.le_refl _) dX6_isPolice_21
  · replace h := h.2 c_3
    refine lv_aload_n hx hb dX6_isPolice_8 rfl (lv_at hl 0 rfl) ?_
    obtain ⟨g_4, e_5, h⟩ := bO_e h
    refine vg_i S hK hV fX6_15 e_5 dX6_isPolice_9 ?_
    refine lv_iload_n hx hb dX6_isPolice_12 rfl (lv_at hl 1 rfl) ?_
    refine lv_icmp_gt (tgt := 20) hx hb dX6_isPolice_13 (by decide) (fun c_6 => ?_) (fun c_6 => ?_)
    · replace h := h.1 c_6
      refine lv_iconst hx hb dX6_isPolice_20 kc_0 ?_
      exact ve_i S hlocks hret hV hS h (vz_nar vz_0) (Nat.le_refl _) (Nat.le_refl _) dX6_isPolice_21
    · replace h := h.2 c_6
      refine lv_iconst hx hb dX6_isPolice_16 kc_1 ?_
      refine lv_goto (tgt := 21) hx hb dX6_isPolice_17 (by decide) ?_
      exact ve_i S hlocks hret hV hS h (vz_nar vz_1) (Nat.le_refl _) (Nat.le_refl _) dX6_isPolice_21
def vX9_isOff (cA : Nat → ClassId) (a0 : Nat) (V : VS) (Post : Int32 → VS → Prop) : Prop := bO (vO V [7] a0) (fun o_3 => vX9_isRight cA a0 V (fun r_1 V_2 => (r_1 = 0 → (Post (0 : Int32) V_2)) ∧ (¬ (r_1 = 0) → (bO (gR V_2 [7] a0 0) (fun p_6 => bO (gI V_2 [7] a0 4) (fun g_8 => bO p_6 (fun n_10 => bO (vO V_2 [6] n_10) (fun o_13 => vX7_lastOff cA n_10 g_8 V_2 (fun r_11 V_12 => bO (gR V_12 [7] a0 0) (fun p_15 => bO p_15 (fun n_17 => bO (gI V_12 [6] n_17 2) (fun g_18 => (r_11 < g_18 → (Post (0 : Int32) V_12)) ∧ (¬ (r_11 < g_18) → (bO (gR V_12 [7] a0 1) (fun p_21 => bO (gR V_12 [7] a0 0) (fun p_23 => bO (gI V_12 [7] a0 4) (fun g_25 => bO p_23 (fun n_27 => bO (vO V_12 [6] n_27) (fun o_30 => vX7_lastOff cA n_27 g_25 V_12 (fun r_28 V_29 => bO p_21 (fun n_32 => bO (vO V_29 [5] n_32) (fun o_35 => vX6_isPolice cA n_32 r_28 V_29 (fun r_33 V_34 => (r_33 = 0 → (Post (0 : Int32) V_34)) ∧ (¬ (r_33 = 0) → (Post (1 : Int32) V_34)))))))))))))))))))))))))
abbrev rX9_isOff : Room := { frames := 2, cells := 0, slots := 0, locals := 45 }
theorem cdX9_isOff : yX9_isOff.cls = RX9 ∧ yX9_isOff.cls ≠ "java/lang/invoke/MethodHandle" ∧ yX9_isOff.cls ≠ "java/lang/invoke/VarHandle" ∧ (parseMethodDescriptor yX9_isOff.desc).map (fun d => d.parameters.length) = some 0 := by decide +kernel
set_option maxHeartbeats 4000000 in
set_option maxRecDepth 100000 in
theorem mvX9_isOff (l : Launch) {D : va_G} {cA : Nat → ClassId} {A : Nat → Prop} (a0 : Nat) (V : VS) (Post : Int32 → VS → Prop) (h : vX9_isOff cA a0 V Post) : Met l yX9_isOff (ws_ yX9_isOff cX9_isOff 1 (some (.boolean))) rX9_isOff (vPc [.ref a0] D cA A V) (va_Qi Post (vB D A) A) 0 0 A := by
  refine vstM (own := RX9) (by decide) rfl (Nat.le_of_ble_eq_true rfl) ?_
  intro p e s m args below meth c ls X hret hV hS hl
  obtain ⟨S, hK, hG, hA, hnm, hlocks⟩ := X
  have hx := S.1
  have hb := S.2.1
  have hl : lv_has ls 1 [(0, .ref a0)] := hl
  unfold vX9_isOff at h
  refine lv_aload_n hx hb dX9_isOff_0 rfl (lv_at hl 0 rfl) ?_
  obtain ⟨o_3, e_4, h⟩ := bO_e h
  refine vk_i (vr_V (As := []) (rest := []) S hK hG hA hV hS e_4 rfl (mvX9_isRight l a0 V _ h) (cwV 0 S.2.2.2.2 (lw_V q1080 q1041 q1042 q162 q1043) rfl rfl rfl cdX9_isRight ⟨Nat.le_of_ble_eq_true rfl, Nat.le_of_ble_eq_true rfl⟩) rfl hl.1 (Nat.le_of_ble_eq_true rfl) dX9_isOff_1 ⟨Nat.le_refl _, Nat.le_refl _⟩) hS (fun r_1 V_2 H locs h hV hS => ?_)
  refine lv_if_eq (tgt := 53) hx hb dX9_isOff_4 (by decide) (fun c_5 => ?_) (fun c_5 => ?_)
  · replace h := h.1 c_5
    refine lv_iconst hx hb dX9_isOff_53 kc_0 ?_
    exact ve_i S hlocks hret hV hS h (vz_nar vz_0) (Nat.le_refl _) (Nat.le_refl _) dX9_isOff_54
  · replace h := h.2 c_5
    refine lv_aload_n hx hb dX9_isOff_7 rfl (lv_at hl 0 rfl) ?_
    obtain ⟨p_6, e_7, h⟩ := bO_e h
    refine vg_r S hK hV fX9_33 e_7 dX9_isOff_8 ?_
    refine lv_aload_n hx hb dX9_isOff_11 rfl (lv_at hl 0 rfl) ?_
    obtain ⟨g_8, e_9, h⟩ := bO_e h
    refine vg_i S hK hV fX9_26 e_9 dX9_isOff_12 ?_
    obtain ⟨n_10, z_n_10, h9⟩ := bO_e h
    clear h; subst z_n_10; have h := h9; clear h9
    obtain ⟨o_13, e_14, h⟩ := bO_e h
    refine vk_i (vr_V (As := [.int g_8]) (rest := []) S hK hG hA hV hS e_14 rfl (mvX7_lastOff l n_10 g_8 V_2 _ h) (cwV 1 S.2.2.2.2 (lw_V q1089 q1090 q1091 q160 q1092) rfl rfl rfl cdX7_lastOff ⟨Nat.le_of_ble_eq_true rfl, Nat.le_of_ble_eq_true rfl⟩) rfl hl.1 (Nat.le_of_ble_eq_true rfl) dX9_isOff_15 ⟨Nat.le_refl _, Nat.le_refl _⟩) hS (fun r_11 V_12 H locs h hV hS => ?_)
    refine lv_aload_n hx hb dX9_isOff_18 rfl (lv_at hl 0 rfl) ?_
    obtain ⟨p_15, e_16, h⟩ := bO_e h
    refine vg_r S hK hV fX9_33 e_16 dX9_isOff_19 ?_
    obtain ⟨n_17, z_n_17, h9⟩ := bO_e h
    clear h; subst z_n_17; have h := h9; clear h9
    obtain ⟨g_18, e_19, h⟩ := bO_e h
    refine vg_i S hK hV fX9_43 e_19 dX9_isOff_22 ?_
    refine lv_icmp_lt (tgt := 53) hx hb dX9_isOff_25 (by decide) (fun c_20 => ?_) (fun c_20 => ?_)
    · replace h := h.1 c_20
      refine lv_iconst hx hb dX9_isOff_53 kc_0 ?_
      exact ve_i S hlocks hret hV hS h (vz_nar vz_0) (Nat.le_refl _) (Nat.le_refl _) dX9_isOff_54
    · replace h := h.2 c_20
      refine lv_aload_n hx hb dX9_isOff_28 rfl (lv_at hl 0 rfl) ?_
      obtain ⟨p_21, e_22, h⟩ := bO_e h
      refine vg_r S hK hV fX9_13 e_22 dX9_isOff_29 ?_
      refine lv_aload_n hx hb dX9_isOff_32 rfl (lv_at hl 0 rfl) ?_
      obtain ⟨p_23, e_24, h⟩ := bO_e h
      refine vg_r S hK hV fX9_33 e_24 dX9_isOff_33 ?_
      refine lv_aload_n hx hb dX9_isOff_36 rfl (lv_at hl 0 rfl) ?_
      obtain ⟨g_25, e_26, h⟩ := bO_e h
      refine vg_i S hK hV fX9_26 e_26 dX9_isOff_37 ?_
      obtain ⟨n_27, z_n_27, h9⟩ := bO_e h
      clear h; subst z_n_27; have h := h9; clear h9
      obtain ⟨o_30, e_31, h⟩ := bO_e h
      refine vk_i (vr_V (As := [.int g_25]) (rest := [va_rf p_21]) S hK hG hA hV hS e_31 rfl (mvX7_lastOff l n_27 g_25 V_12 _ h) (cwV 1 S.2.2.2.2 (lw_V q1089 q1090 q1091 q160 q1092) rfl rfl rfl cdX7_lastOff ⟨Nat.le_of_ble_eq_true rfl, Nat.le_of_ble_eq_true rfl⟩) rfl hl.1 (by cases p_21 <;> exact Nat.le_of_ble_eq_true rfl) dX9_isOff_40 ⟨Nat.le_refl _, Nat.le_refl _⟩) hS (fun r_28 V_29 H locs h hV hS => ?_)
      obtain ⟨n_32, z_n_32, h9⟩ := bO_e h
      clear h; subst z_n_32; have h := h9; clear h9
      obtain ⟨o_35, e_36, h⟩ := bO_e h
      refine vk_i (vr_V (As := [.int r_28]) (rest := []) S hK hG hA hV hS e_36 rfl (mvX6_isPolice l n_32 r_28 V_29 _ h) (cwV 1 S.2.2.2.2 (lw_V q1094 q1095 q1096 q156 q1097) rfl rfl rfl cdX6_isPolice ⟨Nat.le_of_ble_eq_true rfl, Nat.le_of_ble_eq_true rfl⟩) rfl hl.1 (Nat.le_of_ble_eq_true rfl) dX9_isOff_43 ⟨Nat.le_refl _, Nat.le_refl _⟩) hS (fun r_33 V_34 H locs h hV hS => ?_)
      refine lv_if_eq (tgt := 53) hx hb dX9_isOff_46 (by decide) (fun c_37 => ?_) (fun c_37 => ?_)
      · replace h := h.1 c_37
        refine lv_iconst hx hb dX9_isOff_53 kc_0 ?_
        exact ve_i S hlocks hret hV hS h (vz_nar vz_0) (Nat.le_refl _) (Nat.le_refl _) dX9_isOff_54
      · replace h := h.2 c_37
        refine lv_iconst hx hb dX9_isOff_49 kc_1 ?_
        refine lv_goto (tgt := 54) hx hb dX9_isOff_50 (by decide) ?_
        exact ve_i S hlocks hret hV hS h (vz_nar vz_1) (Nat.le_refl _) (Nat.le_refl _) dX9_isOff_54
