def vX2_next_c18 (cA : Nat → ClassId) (a0 : Nat) (k0 : VS → Prop) (Post : VS → Prop) (V : VS) : Prop := bO (gI V [2] a0 0) (fun g_6 => bO (pF V [2] a0 0 (.int (g_6 + (1 : Int32)))) (fun V_8 => k0 V_8))
def vX2_next_c228 (cA : Nat → ClassId) (a0 : Nat) (k181 : VS → Prop) (Post : VS → Prop) (t0 : Int32) (V : VS) : Prop := bO (pF V [2] a0 4 (.int t0)) (fun V_59 => bO (gI V_59 [2] a0 0) (fun g_61 => bO (pF V_59 [2] a0 0 (.int (g_61 + (1 : Int32)))) (fun V_63 => k181 V_63)))
def vX2_next_l181 (cA : Nat → ClassId) (a0 : Nat) (Post : VS → Prop) : Nat → VS → Prop
  | 0, _ => False
  | n + 1, V => bO (vO V [2] a0) (fun o_46 => vX2_here cA a0 V (fun r_44 V_45 => w1_in r_44 (48 : Int32) (57 : Int32) (fun r_48 => (r_48 = 0 → (Post V_45)) ∧ (¬ (r_48 = 0) → (bO (gI V_45 [2] a0 4) (fun g_50 => (g_50 ≤ (999 : Int32) → (bO (gI V_45 [2] a0 4) (fun g_53 => bO (vO V_45 [2] a0) (fun o_57 => vX2_here cA a0 V_45 (fun r_55 V_56 => vX2_next_c228 cA a0 (vX2_next_l181 cA a0 Post n) Post ((((10 : Int32) * g_53) + r_55) - (48 : Int32)) V_56))))) ∧ (¬ (g_50 ≤ (999 : Int32)) → (bO (gI V_45 [2] a0 4) (fun g_65 => vX2_next_c228 cA a0 (vX2_next_l181 cA a0 Post n) Post g_65 V_45)))))))))
def vX2_next_c139 (cA : Nat → ClassId) (a0 : Nat) (Post : VS → Prop) (t0 : Int32) (V : VS) : Prop := bO (pF V [2] a0 3 (.int t0)) (fun V_87 => bO (gI V_87 [2] a0 3) (fun g_89 => (g_89 = (1 : Int32) → (bO (vO V_87 [2] a0) (fun o_94 => vX2_name cA a0 V_87 (fun V_93 => Post V_93)))) ∧ (¬ (g_89 = (1 : Int32)) → (Post V_87))))
def vX2_next_l72 (cA : Nat → ClassId) (a0 : Nat) (Post : VS → Prop) : Nat → VS → Prop
  | 0, _ => False
  | n + 1, V => bO (vO V [2] a0) (fun o_69 => vX2_here cA a0 V (fun r_67 V_68 => w1_in r_67 (97 : Int32) (122 : Int32) (fun r_71 => (r_71 = 0 → (bO (vO V_68 [2] a0) (fun o_75 => vX2_word cA a0 V_68 (fun r_73 V_74 => bO (pF V_74 [2] a0 4 (.int r_73)) (fun V_77 => bO (gI V_77 [2] a0 4) (fun g_79 => (g_79 = (-1 : Int32) → (bO (gI V_77 [2] a0 0) (fun g_82 => bO (gI V_77 [2] a0 2) (fun g_84 => ((g_82 - g_84) ≤ (6 : Int32) → (vX2_next_c139 cA a0 Post (1 : Int32) V_77)) ∧ (¬ ((g_82 - g_84) ≤ (6 : Int32)) → (vX2_next_c139 cA a0 Post (5 : Int32) V_77)))))) ∧ (¬ (g_79 = (-1 : Int32)) → (vX2_next_c139 cA a0 Post (0 : Int32) V_77)))))))) ∧ (¬ (r_71 = 0) → (bO (gI V_68 [2] a0 0) (fun g_96 => bO (pF V_68 [2] a0 0 (.int (g_96 + (1 : Int32)))) (fun V_98 => vX2_next_l72 cA a0 Post n V_98)))))))
def vX2_next_l0 (cA : Nat → ClassId) (a0 : Nat) (Post : VS → Prop) : Nat → VS → Prop
  | 0, _ => False
  | n + 1, V => bO (vO V [2] a0) (fun o_3 => vX2_here cA a0 V (fun r_1 V_2 => (r_1 = (10 : Int32) → (vX2_next_c18 cA a0 (vX2_next_l0 cA a0 Post n) Post V_2)) ∧ (¬ (r_1 = (10 : Int32)) → (bO (vO V_2 [2] a0) (fun o_12 => vX2_here cA a0 V_2 (fun r_10 V_11 => (r_10 = (32 : Int32) → (vX2_next_c18 cA a0 (vX2_next_l0 cA a0 Post n) Post V_11)) ∧ (¬ (r_10 = (32 : Int32)) → (bO (gI V_11 [2] a0 0) (fun g_15 => bO (pF V_11 [2] a0 2 (.int g_15)) (fun V_17 => bO (gI V_17 [2] a0 0) (fun g_19 => bO (gI V_17 [2] a0 1) (fun g_21 => (g_19 = g_21 → (bO (pF V_17 [2] a0 3 (.int (4 : Int32))) (fun V_100 => Post V_100))) ∧ (¬ (g_19 = g_21) → (bO (vO V_17 [2] a0) (fun o_26 => vX2_here cA a0 V_17 (fun r_24 V_25 => w1_in r_24 (97 : Int32) (122 : Int32) (fun r_28 => (r_28 = 0 → (bO (vO V_25 [2] a0) (fun o_32 => vX2_here cA a0 V_25 (fun r_30 V_31 => w1_in r_30 (48 : Int32) (57 : Int32) (fun r_34 => (r_34 = 0 → (bO (vO V_31 [2] a0) (fun o_38 => vX2_sign cA a0 V_31 (fun V_37 => Post V_37)))) ∧ (¬ (r_34 = 0) → (bO (pF V_31 [2] a0 3 (.int (2 : Int32))) (fun V_40 => bO (pF V_40 [2] a0 4 (.int (0 : Int32))) (fun V_42 => ∃ f, vX2_next_l181 cA a0 Post f V_42))))))))) ∧ (¬ (r_28 = 0) → (∃ f, vX2_next_l72 cA a0 Post f V_25)))))))))))))))))))
def vX2_next (cA : Nat → ClassId) (a0 : Nat) (V : VS) (Post : VS → Prop) : Prop := ∃ f, vX2_next_l0 cA a0 Post f V
abbrev rX2_next : Room := { frames := 5, cells := 0, slots := 0, locals := 112 }
theorem cdX2_next : yX2_next.cls = RX2 ∧ yX2_next.cls ≠ "java/lang/invoke/MethodHandle" ∧ yX2_next.cls ≠ "java/lang/invoke/VarHandle" ∧ (parseMethodDescriptor yX2_next.desc).map (fun d => d.parameters.length) = some 0 := by decide +kernel
set_option maxHeartbeats 4000000 in
set_option maxRecDepth 100000 in
theorem mvX2_next (l : Launch) {D : va_G} {cA : Nat → ClassId} {A : Nat → Prop} (a0 : Nat) (V : VS) (Post : VS → Prop) (h : vX2_next cA a0 V Post) : Met l yX2_next (ws_ yX2_next cX2_next 1 none) rX2_next (vPc [.ref a0] D cA A V) (va_Qv Post (vB D A) A) 0 0 A := by
  refine vstM (own := RX2) (by decide) rfl (Nat.le_of_ble_eq_true rfl) ?_
  intro p e s m args below meth c ls X hret hV hS hl
  obtain ⟨S, hK, hG, hA, hnm, hlocks⟩ := X
  have hx := S.1
  have hb := S.2.1
  have hl : lv_has ls 1 [(0, .ref a0)] := hl
  have C18 : ∀ (k0 : VS → Prop) (K0 : (∀ (V : VS) (H : Heap) (locs : List Loc) (ls : Array Slot), HV D A V H → va_S A s.heap H locs → lv_has ls 1 [(0, .ref a0)] → k0 V → W p l e rX2_next s m args below meth c H locs 0 0 (MQ below (va_Qv Post (vB D A) A) args s 0 0 A) (F0 m 0 ls []))), ∀ (V : VS) (H : Heap) (locs : List Loc) (ls : Array Slot), HV D A V H → va_S A s.heap H locs → lv_has ls 1 [(0, .ref a0)] → vX2_next_c18 cA a0 k0 Post V → W p l e rX2_next s m args below meth c H locs 0 0 (MQ below (va_Qv Post (vB D A) A) args s 0 0 A) (F0 m 18 ls []) := by
    intro k0 K0
    intro V H locs ls hV hS hl h
    unfold vX2_next_c18 at h
    refine lv_aload_n hx hb dX2_next_18 rfl (lv_at hl 0 rfl) ?_
    refine lv_dup hx hb dX2_next_19 rfl ?_
    obtain ⟨g_6, e_7, h⟩ := bO_e h
    refine vg_i S hK hV fX2_15 e_7 dX2_next_20 ?_
    refine lv_iconst hx hb dX2_next_23 kc_1 ?_
    refine lv_iadd hx hb dX2_next_24 ?_
    obtain ⟨V_8, e_9, h⟩ := bO_e h
    refine vp_v (v := .int (g_6 + (1 : Int32))) S hK hV hS fX2_15 (Or.inl rfl) rfl rfl e_9 dX2_next_25 (fun H locs hV hS => ?_)
    refine lv_goto (tgt := 0) hx hb dX2_next_28 (by decide) ?_
    exact K0 _ _ _ _ hV hS (lv_sub hl [0] rfl) h
  have C228 : ∀ (k181 : VS → Prop) (K181 : (∀ (V : VS) (H : Heap) (locs : List Loc) (ls : Array Slot), HV D A V H → va_S A s.heap H locs → lv_has ls 1 [(0, .ref a0)] → k181 V → W p l e rX2_next s m args below meth c H locs 0 0 (MQ below (va_Qv Post (vB D A) A) args s 0 0 A) (F0 m 181 ls []))), ∀ (t0 : Int32) (V : VS) (H : Heap) (locs : List Loc) (ls : Array Slot), HV D A V H → va_S A s.heap H locs → lv_has ls 1 [(0, .ref a0)] → vX2_next_c228 cA a0 k181 Post t0 V → W p l e rX2_next s m args below meth c H locs 0 0 (MQ below (va_Qv Post (vB D A) A) args s 0 0 A) (F0 m 228 ls [.int t0, .ref a0]) := by
    intro k181 K181
    intro t0 V H locs ls hV hS hl h
    unfold vX2_next_c228 at h
    obtain ⟨V_59, e_60, h⟩ := bO_e h
    refine vp_v (v := .int t0) S hK hV hS fX2_43 (Or.inl rfl) rfl rfl e_60 dX2_next_228 (fun H locs hV hS => ?_)
    refine lv_aload_n hx hb dX2_next_231 rfl (lv_at hl 0 rfl) ?_
    refine lv_dup hx hb dX2_next_232 rfl ?_
    obtain ⟨g_61, e_62, h⟩ := bO_e h
    refine vg_i S hK hV fX2_15 e_62 dX2_next_233 ?_
    refine lv_iconst hx hb dX2_next_236 kc_1 ?_
    refine lv_iadd hx hb dX2_next_237 ?_
    obtain ⟨V_63, e_64, h⟩ := bO_e h
    refine vp_v (v := .int (g_61 + (1 : Int32))) S hK hV hS fX2_15 (Or.inl rfl) rfl rfl e_64 dX2_next_238 (fun H locs hV hS => ?_)
    refine lv_goto (tgt := 181) hx hb dX2_next_241 (by decide) ?_
    exact K181 _ _ _ _ hV hS (lv_sub hl [0] rfl) h
  have L181 : ∀ (n : Nat) (V : VS) (H : Heap) (locs : List Loc) (ls : Array Slot), HV D A V H → va_S A s.heap H locs → lv_has ls 1 [(0, .ref a0)] → vX2_next_l181 cA a0 Post n V → W p l e rX2_next s m args below meth c H locs 0 0 (MQ below (va_Qv Post (vB D A) A) args s 0 0 A) (F0 m 181 ls []) := by
    intro n
    induction n with
    | zero => intro V H locs ls hV hS hl h; rw [vX2_next_l181] at h; exact h.elim
    | succ n ih =>
      intro V H locs ls hV hS hl h
      rw [vX2_next_l181] at h
      refine lv_aload_n hx hb dX2_next_181 rfl (lv_at hl 0 rfl) ?_
      obtain ⟨o_46, e_47, h⟩ := bO_e h
      refine vk_i (vr_V (As := []) (rest := []) S hK hG hA hV hS e_47 rfl (mvX2_here l a0 V _ h) (cwV 0 S.2.2.2.2 (lw_V q380 q382 qs2 q140 q383) rfl rfl rfl cdX2_here ⟨Nat.le_of_ble_eq_true rfl, Nat.le_of_ble_eq_true rfl⟩) rfl hl.1 (Nat.le_of_ble_eq_true rfl) dX2_next_182 ⟨Nat.le_refl _, Nat.le_refl _⟩) hS (fun r_44 V_45 H locs h hV hS => ?_)
      refine lv_bipush hx hb dX2_next_185 kb_48 ?_
      refine lv_bipush hx hb dX2_next_187 kb_57 ?_
      refine scN_i S (As := [.int r_44, .int (48 : Int32), .int (57 : Int32)]) (rest := []) (mt1_in l r_44 (48 : Int32) (57 : Int32) _ h) ⟨va_cnB 3 S.2.2.2.2 (lw_meth q369) rfl rfl rfl (hK.2.2.1 (_, _, _, "SaidSo") (List.mem_of_getElem? (i := 7) rfl)) (S.2.2.2.2 _ q139) cdX1_in ⟨Nat.le_of_ble_eq_true rfl, Nat.le_of_ble_eq_true rfl⟩, S.2.2.2.2 _ q368, trivial⟩ rfl rfl hl.1 (Nat.le_of_ble_eq_true rfl) dX2_next_189 ⟨Nat.le_refl _, Nat.le_refl _⟩ (fun r_48 h => ?_)
      refine lv_if_eq (tgt := 248) hx hb dX2_next_192 (by decide) (fun c_49 => ?_) (fun c_49 => ?_)
      · replace h := h.1 c_49
        exact ve_v S hlocks hret hV hS h (Nat.le_refl _) (Nat.le_refl _) dX2_next_248
      · replace h := h.2 c_49
        refine lv_aload_n hx hb dX2_next_195 rfl (lv_at hl 0 rfl) ?_
        refine lv_aload_n hx hb dX2_next_196 rfl (lv_at hl 0 rfl) ?_
        obtain ⟨g_50, e_51, h⟩ := bO_e h
        refine vg_i S hK hV fX2_43 e_51 dX2_next_197 ?_
        refine lv_sipush hx hb dX2_next_200 ks_999 ?_
        refine lv_icmp_le (tgt := 213) hx hb dX2_next_203 (by decide) (fun c_52 => ?_) (fun c_52 => ?_)
        · replace h := h.1 c_52
          refine lv_bipush hx hb dX2_next_213 kb_10 ?_
          refine lv_aload_n hx hb dX2_next_215 rfl (lv_at hl 0 rfl) ?_
          obtain ⟨g_53, e_54, h⟩ := bO_e h
          refine vg_i S hK hV fX2_43 e_54 dX2_next_216 ?_
          refine lv_imul hx hb dX2_next_219 ?_
          refine lv_aload_n hx hb dX2_next_220 rfl (lv_at hl 0 rfl) ?_
          obtain ⟨o_57, e_58, h⟩ := bO_e h
          refine vk_i (vr_V (As := []) (rest := [.int ((10 : Int32) * g_53), .ref a0]) S hK hG hA hV hS e_58 rfl (mvX2_here l a0 V_45 _ h) (cwV 0 S.2.2.2.2 (lw_V q380 q382 qs2 q140 q383) rfl rfl rfl cdX2_here ⟨Nat.le_of_ble_eq_true rfl, Nat.le_of_ble_eq_true rfl⟩) rfl hl.1 (Nat.le_of_ble_eq_true rfl) dX2_next_221 ⟨Nat.le_refl _, Nat.le_refl _⟩) hS (fun r_55 V_56 H locs h hV hS => ?_)
          refine lv_iadd hx hb dX2_next_224 ?_
          refine lv_bipush hx hb dX2_next_225 kb_48 ?_
          refine lv_isub hx hb dX2_next_227 ?_
          exact C228 _ ih _ _ _ _ _ hV hS (lv_sub hl [0] rfl) h
        · replace h := h.2 c_52
          refine lv_aload_n hx hb dX2_next_206 rfl (lv_at hl 0 rfl) ?_
          obtain ⟨g_65, e_66, h⟩ := bO_e h
          refine vg_i S hK hV fX2_43 e_66 dX2_next_207 ?_
          refine lv_goto (tgt := 228) hx hb dX2_next_210 (by decide) ?_
          exact C228 _ ih _ _ _ _ _ hV hS (lv_sub hl [0] rfl) h
  have C139 : ∀ (t0 : Int32) (V : VS) (H : Heap) (locs : List Loc) (ls : Array Slot), HV D A V H → va_S A s.heap H locs → lv_has ls 1 [(0, .ref a0)] → vX2_next_c139 cA a0 Post t0 V → W p l e rX2_next s m args below meth c H locs 0 0 (MQ below (va_Qv Post (vB D A) A) args s 0 0 A) (F0 m 139 ls [.int t0, .ref a0]) := by
    intro t0 V H locs ls hV hS hl h
    unfold vX2_next_c139 at h
    obtain ⟨V_87, e_88, h⟩ := bO_e h
    refine vp_v (v := .int t0) S hK hV hS fX2_33 (Or.inl rfl) rfl rfl e_88 dX2_next_139 (fun H locs hV hS => ?_)
    refine lv_aload_n hx hb dX2_next_142 rfl (lv_at hl 0 rfl) ?_
    obtain ⟨g_89, e_90, h⟩ := bO_e h
    refine vg_i S hK hV fX2_33 e_90 dX2_next_143 ?_
    refine lv_iconst hx hb dX2_next_146 kc_1 ?_
    refine lv_icmp_ne (tgt := 248) hx hb dX2_next_147 (by decide) (fun c_91 => ?_) (fun c_91 => ?_)
    · replace h := h.2 c_91
      exact ve_v S hlocks hret hV hS h (Nat.le_refl _) (Nat.le_refl _) dX2_next_248
    · replace h := h.1 c_91
      refine lv_aload_n hx hb dX2_next_150 rfl (lv_at hl 0 rfl) ?_
      obtain ⟨o_94, e_95, h⟩ := bO_e h
      refine vk_v (vr_V (As := []) (rest := []) S hK hG hA hV hS e_95 rfl (mvX2_name l a0 V_87 _ h) (cwV 0 S.2.2.2.2 (lw_V q439 q441 qs4 q140 q442) rfl rfl rfl cdX2_name ⟨Nat.le_of_ble_eq_true rfl, Nat.le_of_ble_eq_true rfl⟩) rfl hl.1 (Nat.le_of_ble_eq_true rfl) dX2_next_151 ⟨Nat.le_refl _, Nat.le_refl _⟩) hS (fun V_93 H locs h hV hS => ?_)
      refine lv_goto (tgt := 248) hx hb dX2_next_154 (by decide) ?_
      exact ve_v S hlocks hret hV hS h (Nat.le_refl _) (Nat.le_refl _) dX2_next_248
  have L72 : ∀ (n : Nat) (V : VS) (H : Heap) (locs : List Loc) (ls : Array Slot), HV D A V H → va_S A s.heap H locs → lv_has ls 1 [(0, .ref a0)] → vX2_next_l72 cA a0 Post n V → W p l e rX2_next s m args below meth c H locs 0 0 (MQ below (va_Qv Post (vB D A) A) args s 0 0 A) (F0 m 72 ls []) := by
    intro n
    induction n with
    | zero => intro V H locs ls hV hS hl h; rw [vX2_next_l72] at h; exact h.elim
    | succ n ih =>
      intro V H locs ls hV hS hl h
      rw [vX2_next_l72] at h
      refine lv_aload_n hx hb dX2_next_72 rfl (lv_at hl 0 rfl) ?_
      obtain ⟨o_69, e_70, h⟩ := bO_e h
      refine vk_i (vr_V (As := []) (rest := []) S hK hG hA hV hS e_70 rfl (mvX2_here l a0 V _ h) (cwV 0 S.2.2.2.2 (lw_V q380 q382 qs2 q140 q383) rfl rfl rfl cdX2_here ⟨Nat.le_of_ble_eq_true rfl, Nat.le_of_ble_eq_true rfl⟩) rfl hl.1 (Nat.le_of_ble_eq_true rfl) dX2_next_73 ⟨Nat.le_refl _, Nat.le_refl _⟩) hS (fun r_67 V_68 H locs h hV hS => ?_)
      refine lv_bipush hx hb dX2_next_76 kb_97 ?_
      refine lv_bipush hx hb dX2_next_78 kb_122 ?_
      refine scN_i S (As := [.int r_67, .int (97 : Int32), .int (122 : Int32)]) (rest := []) (mt1_in l r_67 (97 : Int32) (122 : Int32) _ h) ⟨va_cnB 3 S.2.2.2.2 (lw_meth q369) rfl rfl rfl (hK.2.2.1 (_, _, _, "SaidSo") (List.mem_of_getElem? (i := 7) rfl)) (S.2.2.2.2 _ q139) cdX1_in ⟨Nat.le_of_ble_eq_true rfl, Nat.le_of_ble_eq_true rfl⟩, S.2.2.2.2 _ q368, trivial⟩ rfl rfl hl.1 (Nat.le_of_ble_eq_true rfl) dX2_next_80 ⟨Nat.le_refl _, Nat.le_refl _⟩ (fun r_71 h => ?_)
      refine lv_if_eq (tgt := 99) hx hb dX2_next_83 (by decide) (fun c_72 => ?_) (fun c_72 => ?_)
      · replace h := h.1 c_72
        refine lv_aload_n hx hb dX2_next_99 rfl (lv_at hl 0 rfl) ?_
        refine lv_aload_n hx hb dX2_next_100 rfl (lv_at hl 0 rfl) ?_
        obtain ⟨o_75, e_76, h⟩ := bO_e h
        refine vk_i (vr_V (As := []) (rest := [.ref a0]) S hK hG hA hV hS e_76 rfl (mvX2_word l a0 V_68 _ h) (cwV 0 S.2.2.2.2 (lw_V q385 q387 qs3 q140 q388) rfl rfl rfl cdX2_word ⟨Nat.le_of_ble_eq_true rfl, Nat.le_of_ble_eq_true rfl⟩) rfl hl.1 (Nat.le_of_ble_eq_true rfl) dX2_next_101 ⟨Nat.le_refl _, Nat.le_refl _⟩) hS (fun r_73 V_74 H locs h hV hS => ?_)
        obtain ⟨V_77, e_78, h⟩ := bO_e h
        refine vp_v (v := .int r_73) S hK hV hS fX2_43 (Or.inl rfl) rfl rfl e_78 dX2_next_104 (fun H locs hV hS => ?_)
        refine lv_aload_n hx hb dX2_next_107 rfl (lv_at hl 0 rfl) ?_
        refine lv_aload_n hx hb dX2_next_108 rfl (lv_at hl 0 rfl) ?_
        obtain ⟨g_79, e_80, h⟩ := bO_e h
        refine vg_i S hK hV fX2_43 e_80 dX2_next_109 ?_
        refine lv_iconst hx hb dX2_next_112 kc_m1 ?_
        refine lv_icmp_eq (tgt := 120) hx hb dX2_next_113 (by decide) (fun c_81 => ?_) (fun c_81 => ?_)
        · replace h := h.1 c_81
          refine lv_aload_n hx hb dX2_next_120 rfl (lv_at hl 0 rfl) ?_
          obtain ⟨g_82, e_83, h⟩ := bO_e h
          refine vg_i S hK hV fX2_15 e_83 dX2_next_121 ?_
          refine lv_aload_n hx hb dX2_next_124 rfl (lv_at hl 0 rfl) ?_
          obtain ⟨g_84, e_85, h⟩ := bO_e h
          refine vg_i S hK hV fX2_30 e_85 dX2_next_125 ?_
          refine lv_isub hx hb dX2_next_128 ?_
          refine lv_bipush hx hb dX2_next_129 kb_6 ?_
          refine lv_icmp_le (tgt := 138) hx hb dX2_next_131 (by decide) (fun c_86 => ?_) (fun c_86 => ?_)
          · replace h := h.1 c_86
            refine lv_iconst hx hb dX2_next_138 kc_1 ?_
            exact C139 _ _ _ _ _ hV hS (lv_sub hl [0] rfl) h
          · replace h := h.2 c_86
            refine lv_iconst hx hb dX2_next_134 kc_5 ?_
            refine lv_goto (tgt := 139) hx hb dX2_next_135 (by decide) ?_
            exact C139 _ _ _ _ _ hV hS (lv_sub hl [0] rfl) h
        · replace h := h.2 c_81
          refine lv_iconst hx hb dX2_next_116 kc_0 ?_
          refine lv_goto (tgt := 139) hx hb dX2_next_117 (by decide) ?_
          exact C139 _ _ _ _ _ hV hS (lv_sub hl [0] rfl) h
      · replace h := h.2 c_72
        refine lv_aload_n hx hb dX2_next_86 rfl (lv_at hl 0 rfl) ?_
        refine lv_dup hx hb dX2_next_87 rfl ?_
        obtain ⟨g_96, e_97, h⟩ := bO_e h
        refine vg_i S hK hV fX2_15 e_97 dX2_next_88 ?_
        refine lv_iconst hx hb dX2_next_91 kc_1 ?_
        refine lv_iadd hx hb dX2_next_92 ?_
        obtain ⟨V_98, e_99, h⟩ := bO_e h
        refine vp_v (v := .int (g_96 + (1 : Int32))) S hK hV hS fX2_15 (Or.inl rfl) rfl rfl e_99 dX2_next_93 (fun H locs hV hS => ?_)
        refine lv_goto (tgt := 72) hx hb dX2_next_96 (by decide) ?_
        exact ih _ _ _ _ hV hS (lv_sub hl [0] rfl) h
  have L0 : ∀ (n : Nat) (V : VS) (H : Heap) (locs : List Loc) (ls : Array Slot), HV D A V H → va_S A s.heap H locs → lv_has ls 1 [(0, .ref a0)] → vX2_next_l0 cA a0 Post n V → W p l e rX2_next s m args below meth c H locs 0 0 (MQ below (va_Qv Post (vB D A) A) args s 0 0 A) (F0 m 0 ls []) := by
    intro n
    induction n with
    | zero => intro V H locs ls hV hS hl h; rw [vX2_next_l0] at h; exact h.elim
    | succ n ih =>
      intro V H locs ls hV hS hl h
      rw [vX2_next_l0] at h
      refine lv_aload_n hx hb dX2_next_0 rfl (lv_at hl 0 rfl) ?_
      obtain ⟨o_3, e_4, h⟩ := bO_e h
      refine vk_i (vr_V (As := []) (rest := []) S hK hG hA hV hS e_4 rfl (mvX2_here l a0 V _ h) (cwV 0 S.2.2.2.2 (lw_V q380 q382 qs2 q140 q383) rfl rfl rfl cdX2_here ⟨Nat.le_of_ble_eq_true rfl, Nat.le_of_ble_eq_true rfl⟩) rfl hl.1 (Nat.le_of_ble_eq_true rfl) dX2_next_1 ⟨Nat.le_refl _, Nat.le_refl _⟩) hS (fun r_1 V_2 H locs h hV hS => ?_)
      refine lv_bipush hx hb dX2_next_4 kb_10 ?_
      refine lv_icmp_eq (tgt := 18) hx hb dX2_next_6 (by decide) (fun c_5 => ?_) (fun c_5 => ?_)
      · replace h := h.1 c_5
        exact C18 _ ih _ _ _ _ hV hS (lv_sub hl [0] rfl) h
      · replace h := h.2 c_5
        refine lv_aload_n hx hb dX2_next_9 rfl (lv_at hl 0 rfl) ?_
        obtain ⟨o_12, e_13, h⟩ := bO_e h
        refine vk_i (vr_V (As := []) (rest := []) S hK hG hA hV hS e_13 rfl (mvX2_here l a0 V_2 _ h) (cwV 0 S.2.2.2.2 (lw_V q380 q382 qs2 q140 q383) rfl rfl rfl cdX2_here ⟨Nat.le_of_ble_eq_true rfl, Nat.le_of_ble_eq_true rfl⟩) rfl hl.1 (Nat.le_of_ble_eq_true rfl) dX2_next_10 ⟨Nat.le_refl _, Nat.le_refl _⟩) hS (fun r_10 V_11 H locs h hV hS => ?_)
        refine lv_bipush hx hb dX2_next_13 kb_32 ?_
        refine lv_icmp_ne (tgt := 31) hx hb dX2_next_15 (by decide) (fun c_14 => ?_) (fun c_14 => ?_)
        · replace h := h.2 c_14
          refine lv_aload_n hx hb dX2_next_31 rfl (lv_at hl 0 rfl) ?_
          refine lv_aload_n hx hb dX2_next_32 rfl (lv_at hl 0 rfl) ?_
          obtain ⟨g_15, e_16, h⟩ := bO_e h
          refine vg_i S hK hV fX2_15 e_16 dX2_next_33 ?_
          obtain ⟨V_17, e_18, h⟩ := bO_e h
          refine vp_v (v := .int g_15) S hK hV hS fX2_30 (Or.inl rfl) rfl rfl e_18 dX2_next_36 (fun H locs hV hS => ?_)
          refine lv_aload_n hx hb dX2_next_39 rfl (lv_at hl 0 rfl) ?_
          obtain ⟨g_19, e_20, h⟩ := bO_e h
          refine vg_i S hK hV fX2_15 e_20 dX2_next_40 ?_
          refine lv_aload_n hx hb dX2_next_43 rfl (lv_at hl 0 rfl) ?_
          obtain ⟨g_21, e_22, h⟩ := bO_e h
          refine vg_i S hK hV fX2_19 e_22 dX2_next_44 ?_
          refine lv_icmp_ne (tgt := 58) hx hb dX2_next_47 (by decide) (fun c_23 => ?_) (fun c_23 => ?_)
          · replace h := h.2 c_23
            refine lv_aload_n hx hb dX2_next_58 rfl (lv_at hl 0 rfl) ?_
            obtain ⟨o_26, e_27, h⟩ := bO_e h
            refine vk_i (vr_V (As := []) (rest := []) S hK hG hA hV hS e_27 rfl (mvX2_here l a0 V_17 _ h) (cwV 0 S.2.2.2.2 (lw_V q380 q382 qs2 q140 q383) rfl rfl rfl cdX2_here ⟨Nat.le_of_ble_eq_true rfl, Nat.le_of_ble_eq_true rfl⟩) rfl hl.1 (Nat.le_of_ble_eq_true rfl) dX2_next_59 ⟨Nat.le_refl _, Nat.le_refl _⟩) hS (fun r_24 V_25 H locs h hV hS => ?_)
            refine lv_bipush hx hb dX2_next_62 kb_97 ?_
            refine lv_bipush hx hb dX2_next_64 kb_122 ?_
            refine scN_i S (As := [.int r_24, .int (97 : Int32), .int (122 : Int32)]) (rest := []) (mt1_in l r_24 (97 : Int32) (122 : Int32) _ h) ⟨va_cnB 3 S.2.2.2.2 (lw_meth q369) rfl rfl rfl (hK.2.2.1 (_, _, _, "SaidSo") (List.mem_of_getElem? (i := 7) rfl)) (S.2.2.2.2 _ q139) cdX1_in ⟨Nat.le_of_ble_eq_true rfl, Nat.le_of_ble_eq_true rfl⟩, S.2.2.2.2 _ q368, trivial⟩ rfl rfl hl.1 (Nat.le_of_ble_eq_true rfl) dX2_next_66 ⟨Nat.le_refl _, Nat.le_refl _⟩ (fun r_28 h => ?_)
            refine lv_if_eq (tgt := 157) hx hb dX2_next_69 (by decide) (fun c_29 => ?_) (fun c_29 => ?_)
            · replace h := h.1 c_29
              refine lv_aload_n hx hb dX2_next_157 rfl (lv_at hl 0 rfl) ?_
              obtain ⟨o_32, e_33, h⟩ := bO_e h
              refine vk_i (vr_V (As := []) (rest := []) S hK hG hA hV hS e_33 rfl (mvX2_here l a0 V_25 _ h) (cwV 0 S.2.2.2.2 (lw_V q380 q382 qs2 q140 q383) rfl rfl rfl cdX2_here ⟨Nat.le_of_ble_eq_true rfl, Nat.le_of_ble_eq_true rfl⟩) rfl hl.1 (Nat.le_of_ble_eq_true rfl) dX2_next_158 ⟨Nat.le_refl _, Nat.le_refl _⟩) hS (fun r_30 V_31 H locs h hV hS => ?_)
              refine lv_bipush hx hb dX2_next_161 kb_48 ?_
              refine lv_bipush hx hb dX2_next_163 kb_57 ?_
              refine scN_i S (As := [.int r_30, .int (48 : Int32), .int (57 : Int32)]) (rest := []) (mt1_in l r_30 (48 : Int32) (57 : Int32) _ h) ⟨va_cnB 3 S.2.2.2.2 (lw_meth q369) rfl rfl rfl (hK.2.2.1 (_, _, _, "SaidSo") (List.mem_of_getElem? (i := 7) rfl)) (S.2.2.2.2 _ q139) cdX1_in ⟨Nat.le_of_ble_eq_true rfl, Nat.le_of_ble_eq_true rfl⟩, S.2.2.2.2 _ q368, trivial⟩ rfl rfl hl.1 (Nat.le_of_ble_eq_true rfl) dX2_next_165 ⟨Nat.le_refl _, Nat.le_refl _⟩ (fun r_34 h => ?_)
              refine lv_if_eq (tgt := 244) hx hb dX2_next_168 (by decide) (fun c_35 => ?_) (fun c_35 => ?_)
              · replace h := h.1 c_35
                refine lv_aload_n hx hb dX2_next_244 rfl (lv_at hl 0 rfl) ?_
                obtain ⟨o_38, e_39, h⟩ := bO_e h
                refine vk_v (vr_V (As := []) (rest := []) S hK hG hA hV hS e_39 rfl (mvX2_sign l a0 V_31 _ h) (cwV 0 S.2.2.2.2 (lw_V q443 q445 qs5 q140 q446) rfl rfl rfl cdX2_sign ⟨Nat.le_of_ble_eq_true rfl, Nat.le_of_ble_eq_true rfl⟩) rfl hl.1 (Nat.le_of_ble_eq_true rfl) dX2_next_245 ⟨Nat.le_refl _, Nat.le_refl _⟩) hS (fun V_37 H locs h hV hS => ?_)
                exact ve_v S hlocks hret hV hS h (Nat.le_refl _) (Nat.le_refl _) dX2_next_248
              · replace h := h.2 c_35
                refine lv_aload_n hx hb dX2_next_171 rfl (lv_at hl 0 rfl) ?_
                refine lv_iconst hx hb dX2_next_172 kc_2 ?_
                obtain ⟨V_40, e_41, h⟩ := bO_e h
                refine vp_v (v := .int (2 : Int32)) S hK hV hS fX2_33 (Or.inl rfl) rfl rfl e_41 dX2_next_173 (fun H locs hV hS => ?_)
                refine lv_aload_n hx hb dX2_next_176 rfl (lv_at hl 0 rfl) ?_
                refine lv_iconst hx hb dX2_next_177 kc_0 ?_
                obtain ⟨V_42, e_43, h⟩ := bO_e h
                refine vp_v (v := .int (0 : Int32)) S hK hV hS fX2_43 (Or.inl rfl) rfl rfl e_43 dX2_next_178 (fun H locs hV hS => ?_)
                obtain ⟨f, h⟩ := h
                exact L181 f _ _ _ _ hV hS (lv_sub hl [0] rfl) h
            · replace h := h.2 c_29
              obtain ⟨f, h⟩ := h
              exact L72 f _ _ _ _ hV hS (lv_sub hl [0] rfl) h
          · replace h := h.1 c_23
            refine lv_aload_n hx hb dX2_next_50 rfl (lv_at hl 0 rfl) ?_
            refine lv_iconst hx hb dX2_next_51 kc_4 ?_
            obtain ⟨V_100, e_101, h⟩ := bO_e h
            refine vp_v (v := .int (4 : Int32)) S hK hV hS fX2_33 (Or.inl rfl) rfl rfl e_101 dX2_next_52 (fun H locs hV hS => ?_)
            refine lv_goto (tgt := 248) hx hb dX2_next_55 (by decide) ?_
            exact ve_v S hlocks hret hV hS h (Nat.le_refl _) (Nat.le_refl _) dX2_next_248
        · replace h := h.1 c_14
          exact C18 _ ih _ _ _ _ hV hS (lv_sub hl [0] rfl) h
  unfold vX2_next at h
  obtain ⟨f, h⟩ := h
  exact L0 f _ _ _ _ hV hS (lv_sub hl [0] rfl) h
def vX2_isWord (cA : Nat → ClassId) (a0 : Nat) (a1 : Int32) (a2 : Int32) (V : VS) (Post : Int32 → VS → Prop) : Prop := bO (gI V [2] a0 3) (fun g_1 => (g_1 = 0 → (bO (gI V [2] a0 4) (fun g_4 => w1_in g_4 a1 a2 (fun r_6 => (r_6 = 0 → (Post (0 : Int32) V)) ∧ (¬ (r_6 = 0) → (Post (1 : Int32) V)))))) ∧ (¬ (g_1 = 0) → (Post (0 : Int32) V)))
abbrev rX2_isWord : Room := { frames := 1, cells := 0, slots := 0, locals := 22 }
theorem cdX2_isWord : yX2_isWord.cls = RX2 ∧ yX2_isWord.cls ≠ "java/lang/invoke/MethodHandle" ∧ yX2_isWord.cls ≠ "java/lang/invoke/VarHandle" ∧ (parseMethodDescriptor yX2_isWord.desc).map (fun d => d.parameters.length) = some 2 := by decide +kernel
set_option maxHeartbeats 4000000 in
set_option maxRecDepth 100000 in
theorem mvX2_isWord (l : Launch) {D : va_G} {cA : Nat → ClassId} {A : Nat → Prop} (a0 : Nat) (a1 : Int32) (a2 : Int32) (V : VS) (Post : Int32 → VS → Prop) (h : vX2_isWord cA a0 a1 a2 V Post) : Met l yX2_isWord (ws_ yX2_isWord cX2_isWord 3 (some (.boolean))) rX2_isWord (vPc [.ref a0, .int a1, .int a2] D cA A V) (va_Qi Post (vB D A) A) 0 0 A := by
  refine vstM (own := RX2) (by decide) rfl (Nat.le_of_ble_eq_true rfl) ?_
  intro p e s m args below meth c ls X hret hV hS hl
  obtain ⟨S, hK, hG, hA, hnm, hlocks⟩ := X
  have hx := S.1
  have hb := S.2.1
  have hl : lv_has ls 3 [(0, .ref a0), (1, .int a1), (2, .int a2)] := hl
  unfold vX2_isWord at h
  refine lv_aload_n hx hb dX2_isWord_0 rfl (lv_at hl 0 rfl) ?_
  obtain ⟨g_1, e_2, h⟩ := bO_e h
  refine vg_i S hK hV fX2_33 e_2 dX2_isWord_1 ?_
  refine lv_if_ne (tgt := 23) hx hb dX2_isWord_4 (by decide) (fun c_3 => ?_) (fun c_3 => ?_)
  · replace h := h.2 c_3
    refine lv_iconst hx hb dX2_isWord_23 kc_0 ?_
    exact ve_i S hlocks hret hV hS h (vz_nar vz_0) (Nat.le_refl _) (Nat.le_refl _) dX2_isWord_24
  · replace h := h.1 c_3
    refine lv_aload_n hx hb dX2_isWord_7 rfl (lv_at hl 0 rfl) ?_
    obtain ⟨g_4, e_5, h⟩ := bO_e h
    refine vg_i S hK hV fX2_43 e_5 dX2_isWord_8 ?_
    refine lv_iload_n hx hb dX2_isWord_11 rfl (lv_at hl 1 rfl) ?_
    refine lv_iload_n hx hb dX2_isWord_12 rfl (lv_at hl 2 rfl) ?_
    refine scN_i S (As := [.int g_4, .int a1, .int a2]) (rest := []) (mt1_in l g_4 a1 a2 _ h) ⟨va_cnB 3 S.2.2.2.2 (lw_meth q369) rfl rfl rfl (hK.2.2.1 (_, _, _, "SaidSo") (List.mem_of_getElem? (i := 7) rfl)) (S.2.2.2.2 _ q139) cdX1_in ⟨Nat.le_of_ble_eq_true rfl, Nat.le_of_ble_eq_true rfl⟩, S.2.2.2.2 _ q368, trivial⟩ rfl rfl hl.1 (Nat.le_of_ble_eq_true rfl) dX2_isWord_13 ⟨Nat.le_refl _, Nat.le_refl _⟩ (fun r_6 h => ?_)
    refine lv_if_eq (tgt := 23) hx hb dX2_isWord_16 (by decide) (fun c_7 => ?_) (fun c_7 => ?_)
    · replace h := h.1 c_7
      refine lv_iconst hx hb dX2_isWord_23 kc_0 ?_
      exact ve_i S hlocks hret hV hS h (vz_nar vz_0) (Nat.le_refl _) (Nat.le_refl _) dX2_isWord_24
    · replace h := h.2 c_7
      refine lv_iconst hx hb dX2_isWord_19 kc_1 ?_
      refine lv_goto (tgt := 24) hx hb dX2_isWord_20 (by decide) ?_
      exact ve_i S hlocks hret hV hS h (vz_nar vz_1) (Nat.le_refl _) (Nat.le_refl _) dX2_isWord_24
def vX5_init (cA : Nat → ClassId) (a0 : Nat) (a1 : Int32) (a2 : Int32) (V : VS) (Post : VS → Prop) : Prop := vJ10_init cA a0 none none (0 : Int32) (0 : Int32) V (fun V_2 => bO (pF V_2 [4] a0 6 (.int a1)) (fun V_3 => bO (pF V_3 [4] a0 7 (.int a2)) (fun V_5 => Post V_5)))
abbrev rX5_init : Room := { frames := 3, cells := 0, slots := 0, locals := 72 }
theorem cdX5_init : yX5_init.cls ≠ "java/lang/invoke/MethodHandle" ∧ yX5_init.cls ≠ "java/lang/invoke/VarHandle" ∧ (parseMethodDescriptor yX5_init.desc).map (fun d => d.parameters.length) = some 2 := by decide +kernel
set_option maxHeartbeats 4000000 in
set_option maxRecDepth 100000 in
theorem mvX5_init (l : Launch) {D : va_G} {cA : Nat → ClassId} {A : Nat → Prop} (a0 : Nat) (a1 : Int32) (a2 : Int32) (V : VS) (Post : VS → Prop) (h : vX5_init cA a0 a1 a2 V Post) : Met l yX5_init (ws_ yX5_init cX5_init 3 none) rX5_init (vPc [.ref a0, .int a1, .int a2] D cA A V) (va_Qv Post (vB D A) A) 0 0 A := by
  refine vstM (own := RX5) (by decide) rfl (Nat.le_of_ble_eq_true rfl) ?_
  intro p e s m args below meth c ls X hret hV hS hl
  obtain ⟨S, hK, hG, hA, hnm, hlocks⟩ := X
  have hx := S.1
  have hb := S.2.1
  have hl : lv_has ls 3 [(0, .ref a0), (1, .int a1), (2, .int a2)] := hl
  unfold vX5_init at h
  refine lv_aload_n hx hb dX5_init_0 rfl (lv_at hl 0 rfl) ?_
  refine lv_null hx hb dX5_init_1 ?_
  refine lv_null hx hb dX5_init_2 ?_
  refine lv_iconst hx hb dX5_init_3 kc_0 ?_
  refine lv_iconst hx hb dX5_init_4 kc_0 ?_
  refine vk_v (vr_I (As := [va_rf none, va_rf none, .int (0 : Int32), .int (0 : Int32)]) (rest := []) S hK hG hA hV hS (mvJ10_init l a0 none none (0 : Int32) (0 : Int32) V _ h) (cwI 4 S.2.2.2.2 (lw_meth q565) rfl rfl rfl (S.2.2.2.2 _ q153) (S.2.2.2.2 _ q563) (S.2.2.2.2 _ q564) rfl cdJ10_init ⟨Nat.le_of_ble_eq_true rfl, Nat.le_of_ble_eq_true rfl⟩) rfl hl.1 (Nat.le_of_ble_eq_true rfl) dX5_init_5 ⟨Nat.le_refl _, Nat.le_refl _⟩) hS (fun V_2 H locs h hV hS => ?_)
  refine lv_aload_n hx hb dX5_init_8 rfl (lv_at hl 0 rfl) ?_
  refine lv_iload_n hx hb dX5_init_9 rfl (lv_at hl 1 rfl) ?_
  obtain ⟨V_3, e_4, h⟩ := bO_e h
  refine vp_v (v := .int a1) S hK hV hS fX5_7 (Or.inr ⟨hnm, by decide +kernel, by decide +kernel⟩) rfl rfl e_4 dX5_init_10 (fun H locs hV hS => ?_)
  refine lv_aload_n hx hb dX5_init_13 rfl (lv_at hl 0 rfl) ?_
  refine lv_iload_n hx hb dX5_init_14 rfl (lv_at hl 2 rfl) ?_
  obtain ⟨V_5, e_6, h⟩ := bO_e h
  refine vp_v (v := .int a2) S hK hV hS fX5_13 (Or.inr ⟨hnm, by decide +kernel, by decide +kernel⟩) rfl rfl e_6 dX5_init_15 (fun H locs hV hS => ?_)
  exact ve_v S hlocks hret hV hS h (Nat.le_refl _) (Nat.le_refl _) dX5_init_18
def vX2_wrong (cA : Nat → ClassId) (a0 : Nat) (a1 : Int32) (V : VS) (MC MS : Nat) (Post : Option Nat → VS → Prop) : Prop := (0 + 1 ≤ MC ∧ 0 + 8 ≤ MS ∧ ∀ (q_1 : Nat) (V_2 : VS), V q_1 = none → V_2 = vU V q_1 (.inr (4, [.null, .null, .null, .null, .null, .int 0, .int 0, .int 0])) → bO (gI V_2 [2] a0 2) (fun g_3 => vX5_init cA q_1 a1 g_3 V_2 (fun V_6 => Post (some q_1) V_6)))
abbrev rX2_wrong (MC MS : Nat) : Room := { frames := 4, cells := MC, slots := MS, locals := 94 }
theorem cdX2_wrong : yX2_wrong.cls = RX2 ∧ yX2_wrong.cls ≠ "java/lang/invoke/MethodHandle" ∧ yX2_wrong.cls ≠ "java/lang/invoke/VarHandle" ∧ (parseMethodDescriptor yX2_wrong.desc).map (fun d => d.parameters.length) = some 1 := by decide +kernel
set_option maxHeartbeats 4000000 in
set_option maxRecDepth 100000 in
theorem mvX2_wrong (l : Launch) {D : va_G} {cA : Nat → ClassId} {A : Nat → Prop} (a0 : Nat) (a1 : Int32) (V : VS) (MC MS : Nat) (Post : Option Nat → VS → Prop) (h : vX2_wrong cA a0 a1 V MC MS Post) : Met l yX2_wrong (ws_ yX2_wrong cX2_wrong 2 (some (.object "SaidSo$Fault"))) (rX2_wrong MC MS) (vPc [.ref a0, .int a1] D cA A V) (va_Qq Post (vB D A) A) MC MS A := by
  refine vstM (own := RX2) (by decide) rfl (Nat.le_of_ble_eq_true rfl) ?_
  intro p e s m args below meth c ls X hret hV hS hl
  obtain ⟨S, hK, hG, hA, hnm, hlocks⟩ := X
  have hx := S.1
  have hb := S.2.1
  have hk : 0 ≤ MC ∧ 0 ≤ MS := ⟨Nat.zero_le _, Nat.zero_le _⟩
  have hl : lv_has ls 2 [(0, .ref a0), (1, .int a1)] := hl
  unfold vX2_wrong at h
  obtain ⟨hc1, hc2, h⟩ := h
  refine vw_new (ci := 4) (fs := [.null, .null, .null, .null, .null, .int 0, .int 0, .int 0]) (C := RX5) (T := TX5) (N := 8) S hK hV hS hA in_X5 tyX5 tyX5_ok q519 q520 q154 rfl (fun j hj => by first | (rcases j with _ | _ | _ | _ | _ | _ | _ | _ | _ | _ | _ | _ | _ | _ | _ | _ | _ | _ | _ | _ | _ | j <;> first | rfl | omega)) hc1 hc2 dX2_wrong_0 (fun q_1 V_2 H g1 g2 hV hS => ?_)
  replace h := h q_1 V_2 g1 g2
  have hk : 0 + 1 ≤ MC ∧ 0 + 8 ≤ MS := ⟨hc1, hc2⟩
  refine lv_dup hx hb dX2_wrong_3 rfl ?_
  refine lv_iload_n hx hb dX2_wrong_4 rfl (lv_at hl 1 rfl) ?_
  refine lv_aload_n hx hb dX2_wrong_5 rfl (lv_at hl 0 rfl) ?_
  obtain ⟨g_3, e_4, h⟩ := bO_e h
  refine vg_i S hK hV fX2_30 e_4 dX2_wrong_6 ?_
  refine vk_v (vr_I (As := [.int a1, .int g_3]) (rest := [.ref q_1]) S hK hG hA hV hS (mvX5_init l q_1 a1 g_3 V_2 _ h) (cwI 2 S.2.2.2.2 (lw_meth q562) rfl rfl rfl (S.2.2.2.2 _ q154) (S.2.2.2.2 _ q560) (S.2.2.2.2 _ q561) rfl cdX5_init ⟨Nat.le_of_ble_eq_true rfl, Nat.le_of_ble_eq_true rfl⟩) rfl hl.1 (Nat.le_of_ble_eq_true rfl) dX2_wrong_9 ⟨hk.1, hk.2⟩) hS (fun V_6 H locs h hV hS => ?_)
  exact ve_q (r := some q_1) S hlocks hret (Or.inl ⟨_, rfl⟩) hV hS h hk.1 hk.2 dX2_wrong_12
def vX2_fresh_c43 (cA : Nat → ClassId) (a0 : Nat) (a1 : Int32) (MC MS : Nat) (Post : Int32 → VS → Prop) (PX : Nat → Nat → VS → Prop) (t0 : Int32) (V : VS) (kc ks : Nat) : Prop := (t0 = (-1 : Int32) → (bO (gI V [2] a0 4) (fun g_15 => bO (vO V [2] a0) (fun o_19 => vX2_next cA a0 V (fun V_18 => Post g_15 V_18))))) ∧ (¬ (t0 = (-1 : Int32)) → (∃ mc_23 ms_24 : Nat, kc + mc_23 ≤ MC ∧ ks + ms_24 ≤ MS ∧ bO (vO V [2] a0) (fun o_25 => vX2_wrong cA a0 (3 : Int32) V mc_23 ms_24 (fun p_21 V_22 => bO p_21 (fun n_27 => bO (vO V_22 [4] n_27) (fun o_28 => PX 0 n_27 V_22))))))
def vX2_fresh (cA : Nat → ClassId) (a0 : Nat) (a1 : Int32) (V : VS) (MC MS : Nat) (Post : Int32 → VS → Prop) (PX : Nat → Nat → VS → Prop) : Prop := bO (gI V [2] a0 3) (fun g_1 => (g_1 = (1 : Int32) → ((a1 = 0 → (bO (gR V [2] a0 6) (fun p_5 => bO (gI V [2] a0 4) (fun g_7 => bO p_5 (fun n_9 => bO (vO V [3] n_9) (fun o_12 => vX3_teller cA n_9 g_7 V (fun r_10 V_11 => vX2_fresh_c43 cA a0 a1 MC MS Post PX r_10 V_11 0 0))))))) ∧ (¬ (a1 = 0) → (bO (gR V [2] a0 6) (fun p_30 => bO (gI V [2] a0 4) (fun g_32 => bO p_30 (fun n_34 => bO (vO V [3] n_34) (fun o_37 => vX3_thing cA n_34 g_32 V (fun r_35 V_36 => vX2_fresh_c43 cA a0 a1 MC MS Post PX r_35 V_36 0 0))))))))) ∧ (¬ (g_1 = (1 : Int32)) → (∃ mc_41 ms_42 : Nat, 0 + mc_41 ≤ MC ∧ 0 + ms_42 ≤ MS ∧ bO (vO V [2] a0) (fun o_43 => vX2_wrong cA a0 (1 : Int32) V mc_41 ms_42 (fun p_39 V_40 => bO p_39 (fun n_45 => bO (vO V_40 [4] n_45) (fun o_46 => PX 0 n_45 V_40)))))))
abbrev rX2_fresh (MC MS : Nat) : Room := { frames := 6, cells := MC, slots := MS, locals := 132 }
theorem cdX2_fresh : yX2_fresh.cls = RX2 ∧ yX2_fresh.cls ≠ "java/lang/invoke/MethodHandle" ∧ yX2_fresh.cls ≠ "java/lang/invoke/VarHandle" ∧ (parseMethodDescriptor yX2_fresh.desc).map (fun d => d.parameters.length) = some 1 := by decide +kernel
set_option maxHeartbeats 4000000 in
set_option maxRecDepth 100000 in
theorem mvX2_fresh (l : Launch) {D : va_G} {cA : Nat → ClassId} {A : Nat → Prop} (a0 : Nat) (a1 : Int32) (V : VS) (MC MS : Nat) (Post : Int32 → VS → Prop) (PX : Nat → Nat → VS → Prop) (h : vX2_fresh cA a0 a1 V MC MS Post PX) : vx_Met l yX2_fresh (ws_ yX2_fresh cX2_fresh 3 (some (.int))) (rX2_fresh MC MS) (vPc [.ref a0, .int a1] D cA A V) (va_Qi Post (vB D A) A) (vX D A PX) MC MS A := by
  refine vst (own := RX2) (by decide) rfl (Nat.le_of_ble_eq_true rfl) ?_
  intro p e s m args below meth c ls X hret hV hS hl
  obtain ⟨S, hK, hG, hA, hnm, hlocks, htab⟩ := X
  have hx := S.1
  have hb := S.2.1
  have hk : 0 ≤ MC ∧ 0 ≤ MS := ⟨Nat.zero_le _, Nat.zero_le _⟩
  have hl : lv_has ls 3 [(0, .ref a0), (1, .int a1)] := hl
  have C43 : ∀ (t0 : Int32) (V : VS) (kc ks : Nat) (H : Heap) (locs : List Loc) (ls : Array Slot), HV D A V H → va_S A s.heap H locs → (kc ≤ MC ∧ ks ≤ MS) → lv_has ls 3 [(0, .ref a0), (1, .int a1)] → vX2_fresh_c43 cA a0 a1 MC MS Post PX t0 V kc ks → W p l e (rX2_fresh MC MS) s m args below meth c H locs kc ks (vx_MQ below (va_Qi Post (vB D A) A) (vX D A PX) args s MC MS A) (F0 m 43 ls [.int t0]) := by
    intro t0 V kc ks H locs ls hV hS hk hl h
    unfold vX2_fresh_c43 at h
    refine lv_iconst hx hb dX2_fresh_43 kc_m1 ?_
    refine lv_icmp_eq (tgt := 53) hx hb dX2_fresh_44 (by decide) (fun c_14 => ?_) (fun c_14 => ?_)
    · replace h := h.1 c_14
      refine lv_aload_n hx hb dX2_fresh_53 rfl (lv_at hl 0 rfl) ?_
      obtain ⟨g_15, e_16, h⟩ := bO_e h
      refine vg_i S hK hV fX2_43 e_16 dX2_fresh_54 ?_
      refine lv_istore_n (lv' := [(2, .int g_15), (0, .ref a0), (1, .int a1)]) hx hb dX2_fresh_57 rfl hl (by decide) rfl (fun ls hl => ?_)
      refine lv_aload_n hx hb dX2_fresh_58 rfl (lv_at hl 1 rfl) ?_
      obtain ⟨o_19, e_20, h⟩ := bO_e h
      refine vk_v (vr_V (As := []) (rest := []) S hK hG hA hV hS e_20 rfl (mvX2_next l a0 V _ h) (cwV 0 S.2.2.2.2 (lw_V q376 q378 qs1 q140 q379) rfl rfl rfl cdX2_next ⟨Nat.le_of_ble_eq_true rfl, Nat.le_of_ble_eq_true rfl⟩) rfl hl.1 (Nat.le_of_ble_eq_true rfl) dX2_fresh_59 ⟨hk.1, hk.2⟩) hS (fun V_18 H locs h hV hS => ?_)
      refine lv_iload_n hx hb dX2_fresh_62 rfl (lv_at hl 0 rfl) ?_
      exact vx_ret (ve_i S hlocks hret hV hS h rfl hk.1 hk.2 dX2_fresh_63)
    · replace h := h.2 c_14
      refine lv_aload_n hx hb dX2_fresh_47 rfl (lv_at hl 0 rfl) ?_
      refine lv_iconst hx hb dX2_fresh_48 kc_3 ?_
      obtain ⟨mc_23, ms_24, hc1, hc2, h⟩ := h
      obtain ⟨o_25, e_26, h⟩ := bO_e h
      refine vk_q (vr_V (As := [.int (3 : Int32)]) (rest := []) S hK hG hA hV hS e_26 rfl (mvX2_wrong l a0 (3 : Int32) V mc_23 ms_24 _ h) (cwV 1 S.2.2.2.2 (lw_V q515 q517 qs8 q140 q518) rfl rfl rfl cdX2_wrong ⟨Nat.le_of_ble_eq_true rfl, Nat.le_of_ble_eq_true rfl⟩) rfl hl.1 (Nat.le_of_ble_eq_true rfl) dX2_fresh_49 ⟨hc1, hc2⟩) hS (fun p_21 V_22 H locs h hV hS => ?_)
      have hk : kc + mc_23 ≤ MC ∧ ks + ms_24 ≤ MS := ⟨hc1, hc2⟩
      obtain ⟨n_27, z_n_27, h9⟩ := bO_e h
      clear h; subst z_n_27; have h := h9; clear h9
      obtain ⟨o_28, e_29, h⟩ := bO_e h
      exact vt_F hx hb htab hlocks hK hV hS e_29 h hk.1 hk.2 dX2_fresh_52
  unfold vX2_fresh at h
  refine lv_aload_n hx hb dX2_fresh_0 rfl (lv_at hl 0 rfl) ?_
  obtain ⟨g_1, e_2, h⟩ := bO_e h
  refine vg_i S hK hV fX2_33 e_2 dX2_fresh_1 ?_
  refine lv_iconst hx hb dX2_fresh_4 kc_1 ?_
  refine lv_icmp_eq (tgt := 14) hx hb dX2_fresh_5 (by decide) (fun c_3 => ?_) (fun c_3 => ?_)
  · replace h := h.1 c_3
    refine lv_iload_n hx hb dX2_fresh_14 rfl (lv_at hl 1 rfl) ?_
    refine lv_if_eq (tgt := 32) hx hb dX2_fresh_15 (by decide) (fun c_4 => ?_) (fun c_4 => ?_)
    · replace h := h.1 c_4
      refine lv_aload_n hx hb dX2_fresh_32 rfl (lv_at hl 0 rfl) ?_
      obtain ⟨p_5, e_6, h⟩ := bO_e h
      refine vg_r S hK hV fX2_93 e_6 dX2_fresh_33 ?_
      refine lv_aload_n hx hb dX2_fresh_36 rfl (lv_at hl 0 rfl) ?_
      obtain ⟨g_7, e_8, h⟩ := bO_e h
      refine vg_i S hK hV fX2_43 e_8 dX2_fresh_37 ?_
      obtain ⟨n_9, z_n_9, h9⟩ := bO_e h
      clear h; subst z_n_9; have h := h9; clear h9
      obtain ⟨o_12, e_13, h⟩ := bO_e h
      refine vk_i (vr_V (As := [.int g_7]) (rest := []) S hK hG hA hV hS e_13 rfl (mvX3_teller l n_9 g_7 V _ h) (cwV 1 S.2.2.2.2 (lw_V q620 q621 q622 q141 q623) rfl rfl rfl cdX3_teller ⟨Nat.le_of_ble_eq_true rfl, Nat.le_of_ble_eq_true rfl⟩) rfl hl.1 (Nat.le_of_ble_eq_true rfl) dX2_fresh_40 ⟨hk.1, hk.2⟩) hS (fun r_10 V_11 H locs h hV hS => ?_)
      exact C43 _ _ _ _ _ _ _ hV hS hk (lv_sub hl [0, 1] rfl) h
    · replace h := h.2 c_4
      refine lv_aload_n hx hb dX2_fresh_18 rfl (lv_at hl 0 rfl) ?_
      obtain ⟨p_30, e_31, h⟩ := bO_e h
      refine vg_r S hK hV fX2_93 e_31 dX2_fresh_19 ?_
      refine lv_aload_n hx hb dX2_fresh_22 rfl (lv_at hl 0 rfl) ?_
      obtain ⟨g_32, e_33, h⟩ := bO_e h
      refine vg_i S hK hV fX2_43 e_33 dX2_fresh_23 ?_
      obtain ⟨n_34, z_n_34, h9⟩ := bO_e h
      clear h; subst z_n_34; have h := h9; clear h9
      obtain ⟨o_37, e_38, h⟩ := bO_e h
      refine vk_i (vr_V (As := [.int g_32]) (rest := []) S hK hG hA hV hS e_38 rfl (mvX3_thing l n_34 g_32 V _ h) (cwV 1 S.2.2.2.2 (lw_V q602 q603 q604 q141 q605) rfl rfl rfl cdX3_thing ⟨Nat.le_of_ble_eq_true rfl, Nat.le_of_ble_eq_true rfl⟩) rfl hl.1 (Nat.le_of_ble_eq_true rfl) dX2_fresh_26 ⟨hk.1, hk.2⟩) hS (fun r_35 V_36 H locs h hV hS => ?_)
      refine lv_goto (tgt := 43) hx hb dX2_fresh_29 (by decide) ?_
      exact C43 _ _ _ _ _ _ _ hV hS hk (lv_sub hl [0, 1] rfl) h
  · replace h := h.2 c_3
    refine lv_aload_n hx hb dX2_fresh_8 rfl (lv_at hl 0 rfl) ?_
    refine lv_iconst hx hb dX2_fresh_9 kc_1 ?_
    obtain ⟨mc_41, ms_42, hc1, hc2, h⟩ := h
    obtain ⟨o_43, e_44, h⟩ := bO_e h
    refine vk_q (vr_V (As := [.int (1 : Int32)]) (rest := []) S hK hG hA hV hS e_44 rfl (mvX2_wrong l a0 (1 : Int32) V mc_41 ms_42 _ h) (cwV 1 S.2.2.2.2 (lw_V q515 q517 qs8 q140 q518) rfl rfl rfl cdX2_wrong ⟨Nat.le_of_ble_eq_true rfl, Nat.le_of_ble_eq_true rfl⟩) rfl hl.1 (Nat.le_of_ble_eq_true rfl) dX2_fresh_10 ⟨hc1, hc2⟩) hS (fun p_39 V_40 H locs h hV hS => ?_)
    have hk : 0 + mc_41 ≤ MC ∧ 0 + ms_42 ≤ MS := ⟨hc1, hc2⟩
    obtain ⟨n_45, z_n_45, h9⟩ := bO_e h
    clear h; subst z_n_45; have h := h9; clear h9
    obtain ⟨o_46, e_47, h⟩ := bO_e h
    exact vt_F hx hb htab hlocks hK hV hS e_47 h hk.1 hk.2 dX2_fresh_13
def vX2_number (cA : Nat → ClassId) (a0 : Nat) (a1 : Int32) (a2 : Int32) (V : VS) (MC MS : Nat) (Post : Int32 → VS → Prop) (PX : Nat → Nat → VS → Prop) : Prop := bO (gI V [2] a0 3) (fun g_1 => (g_1 = (2 : Int32) → (bO (gI V [2] a0 4) (fun g_4 => w1_in g_4 a1 a2 (fun r_6 => (r_6 = 0 → (∃ mc_16 ms_17 : Nat, 0 + mc_16 ≤ MC ∧ 0 + ms_17 ≤ MS ∧ bO (vO V [2] a0) (fun o_18 => vX2_wrong cA a0 (2 : Int32) V mc_16 ms_17 (fun p_14 V_15 => bO p_14 (fun n_20 => bO (vO V_15 [4] n_20) (fun o_21 => PX 0 n_20 V_15)))))) ∧ (¬ (r_6 = 0) → (bO (gI V [2] a0 4) (fun g_8 => bO (vO V [2] a0) (fun o_12 => vX2_next cA a0 V (fun V_11 => Post g_8 V_11))))))))) ∧ (¬ (g_1 = (2 : Int32)) → (∃ mc_25 ms_26 : Nat, 0 + mc_25 ≤ MC ∧ 0 + ms_26 ≤ MS ∧ bO (vO V [2] a0) (fun o_27 => vX2_wrong cA a0 (1 : Int32) V mc_25 ms_26 (fun p_23 V_24 => bO p_23 (fun n_29 => bO (vO V_24 [4] n_29) (fun o_30 => PX 0 n_29 V_24)))))))
abbrev rX2_number (MC MS : Nat) : Room := { frames := 6, cells := MC, slots := MS, locals := 132 }
theorem cdX2_number : yX2_number.cls = RX2 ∧ yX2_number.cls ≠ "java/lang/invoke/MethodHandle" ∧ yX2_number.cls ≠ "java/lang/invoke/VarHandle" ∧ (parseMethodDescriptor yX2_number.desc).map (fun d => d.parameters.length) = some 2 := by decide +kernel
set_option maxHeartbeats 4000000 in
set_option maxRecDepth 100000 in
theorem mvX2_number (l : Launch) {D : va_G} {cA : Nat → ClassId} {A : Nat → Prop} (a0 : Nat) (a1 : Int32) (a2 : Int32) (V : VS) (MC MS : Nat) (Post : Int32 → VS → Prop) (PX : Nat → Nat → VS → Prop) (h : vX2_number cA a0 a1 a2 V MC MS Post PX) : vx_Met l yX2_number (ws_ yX2_number cX2_number 4 (some (.int))) (rX2_number MC MS) (vPc [.ref a0, .int a1, .int a2] D cA A V) (va_Qi Post (vB D A) A) (vX D A PX) MC MS A := by
  refine vst (own := RX2) (by decide) rfl (Nat.le_of_ble_eq_true rfl) ?_
  intro p e s m args below meth c ls X hret hV hS hl
  obtain ⟨S, hK, hG, hA, hnm, hlocks, htab⟩ := X
  have hx := S.1
  have hb := S.2.1
  have hk : 0 ≤ MC ∧ 0 ≤ MS := ⟨Nat.zero_le _, Nat.zero_le _⟩
  have hl : lv_has ls 4 [(0, .ref a0), (1, .int a1), (2, .int a2)] := hl
  unfold vX2_number at h
  refine lv_aload_n hx hb dX2_number_0 rfl (lv_at hl 0 rfl) ?_
  obtain ⟨g_1, e_2, h⟩ := bO_e h
  refine vg_i S hK hV fX2_33 e_2 dX2_number_1 ?_
  refine lv_iconst hx hb dX2_number_4 kc_2 ?_
  refine lv_icmp_eq (tgt := 14) hx hb dX2_number_5 (by decide) (fun c_3 => ?_) (fun c_3 => ?_)
  · replace h := h.1 c_3
    refine lv_aload_n hx hb dX2_number_14 rfl (lv_at hl 0 rfl) ?_
    obtain ⟨g_4, e_5, h⟩ := bO_e h
    refine vg_i S hK hV fX2_43 e_5 dX2_number_15 ?_
    refine lv_iload_n hx hb dX2_number_18 rfl (lv_at hl 1 rfl) ?_
    refine lv_iload_n hx hb dX2_number_19 rfl (lv_at hl 2 rfl) ?_
    refine scN_i S (As := [.int g_4, .int a1, .int a2]) (rest := []) (mt1_in l g_4 a1 a2 _ h) ⟨va_cnB 3 S.2.2.2.2 (lw_meth q369) rfl rfl rfl (hK.2.2.1 (_, _, _, "SaidSo") (List.mem_of_getElem? (i := 7) rfl)) (S.2.2.2.2 _ q139) cdX1_in ⟨Nat.le_of_ble_eq_true rfl, Nat.le_of_ble_eq_true rfl⟩, S.2.2.2.2 _ q368, trivial⟩ rfl rfl hl.1 (Nat.le_of_ble_eq_true rfl) dX2_number_20 ⟨hk.1, hk.2⟩ (fun r_6 h => ?_)
    refine lv_if_ne (tgt := 32) hx hb dX2_number_23 (by decide) (fun c_7 => ?_) (fun c_7 => ?_)
    · replace h := h.2 c_7
      refine lv_aload_n hx hb dX2_number_32 rfl (lv_at hl 0 rfl) ?_
      obtain ⟨g_8, e_9, h⟩ := bO_e h
      refine vg_i S hK hV fX2_43 e_9 dX2_number_33 ?_
      refine lv_istore_n (lv' := [(3, .int g_8), (0, .ref a0), (1, .int a1), (2, .int a2)]) hx hb dX2_number_36 rfl hl (by decide) rfl (fun ls hl => ?_)
      refine lv_aload_n hx hb dX2_number_37 rfl (lv_at hl 1 rfl) ?_
      obtain ⟨o_12, e_13, h⟩ := bO_e h
      refine vk_v (vr_V (As := []) (rest := []) S hK hG hA hV hS e_13 rfl (mvX2_next l a0 V _ h) (cwV 0 S.2.2.2.2 (lw_V q376 q378 qs1 q140 q379) rfl rfl rfl cdX2_next ⟨Nat.le_of_ble_eq_true rfl, Nat.le_of_ble_eq_true rfl⟩) rfl hl.1 (Nat.le_of_ble_eq_true rfl) dX2_number_38 ⟨hk.1, hk.2⟩) hS (fun V_11 H locs h hV hS => ?_)
      refine lv_iload_n hx hb dX2_number_41 rfl (lv_at hl 0 rfl) ?_
      exact vx_ret (ve_i S hlocks hret hV hS h rfl hk.1 hk.2 dX2_number_42)
    · replace h := h.1 c_7
      refine lv_aload_n hx hb dX2_number_26 rfl (lv_at hl 0 rfl) ?_
      refine lv_iconst hx hb dX2_number_27 kc_2 ?_
      obtain ⟨mc_16, ms_17, hc1, hc2, h⟩ := h
      obtain ⟨o_18, e_19, h⟩ := bO_e h
      refine vk_q (vr_V (As := [.int (2 : Int32)]) (rest := []) S hK hG hA hV hS e_19 rfl (mvX2_wrong l a0 (2 : Int32) V mc_16 ms_17 _ h) (cwV 1 S.2.2.2.2 (lw_V q515 q517 qs8 q140 q518) rfl rfl rfl cdX2_wrong ⟨Nat.le_of_ble_eq_true rfl, Nat.le_of_ble_eq_true rfl⟩) rfl hl.1 (Nat.le_of_ble_eq_true rfl) dX2_number_28 ⟨hc1, hc2⟩) hS (fun p_14 V_15 H locs h hV hS => ?_)
      have hk : 0 + mc_16 ≤ MC ∧ 0 + ms_17 ≤ MS := ⟨hc1, hc2⟩
      obtain ⟨n_20, z_n_20, h9⟩ := bO_e h
      clear h; subst z_n_20; have h := h9; clear h9
      obtain ⟨o_21, e_22, h⟩ := bO_e h
      exact vt_F hx hb htab hlocks hK hV hS e_22 h hk.1 hk.2 dX2_number_31
  · replace h := h.2 c_3
    refine lv_aload_n hx hb dX2_number_8 rfl (lv_at hl 0 rfl) ?_
    refine lv_iconst hx hb dX2_number_9 kc_1 ?_
    obtain ⟨mc_25, ms_26, hc1, hc2, h⟩ := h
    obtain ⟨o_27, e_28, h⟩ := bO_e h
    refine vk_q (vr_V (As := [.int (1 : Int32)]) (rest := []) S hK hG hA hV hS e_28 rfl (mvX2_wrong l a0 (1 : Int32) V mc_25 ms_26 _ h) (cwV 1 S.2.2.2.2 (lw_V q515 q517 qs8 q140 q518) rfl rfl rfl cdX2_wrong ⟨Nat.le_of_ble_eq_true rfl, Nat.le_of_ble_eq_true rfl⟩) rfl hl.1 (Nat.le_of_ble_eq_true rfl) dX2_number_10 ⟨hc1, hc2⟩) hS (fun p_23 V_24 H locs h hV hS => ?_)
    have hk : 0 + mc_25 ≤ MC ∧ 0 + ms_26 ≤ MS := ⟨hc1, hc2⟩
    obtain ⟨n_29, z_n_29, h9⟩ := bO_e h
    clear h; subst z_n_29; have h := h9; clear h9
    obtain ⟨o_30, e_31, h⟩ := bO_e h
    exact vt_F hx hb htab hlocks hK hV hS e_31 h hk.1 hk.2 dX2_number_13
def vX2_wants (cA : Nat → ClassId) (a0 : Nat) (a1 : Int32) (V : VS) (MC MS : Nat) (Post : VS → Prop) (PX : Nat → Nat → VS → Prop) : Prop := bO (vO V [2] a0) (fun o_3 => vX2_isWord cA a0 a1 a1 V (fun r_1 V_2 => (r_1 = 0 → (∃ mc_12 ms_13 : Nat, 0 + mc_12 ≤ MC ∧ 0 + ms_13 ≤ MS ∧ bO (vO V_2 [2] a0) (fun o_14 => vX2_wrong cA a0 (1 : Int32) V_2 mc_12 ms_13 (fun p_10 V_11 => bO p_10 (fun n_16 => bO (vO V_11 [4] n_16) (fun o_17 => PX 0 n_16 V_11)))))) ∧ (¬ (r_1 = 0) → (bO (vO V_2 [2] a0) (fun o_8 => vX2_next cA a0 V_2 (fun V_7 => Post V_7))))))
abbrev rX2_wants (MC MS : Nat) : Room := { frames := 6, cells := MC, slots := MS, locals := 132 }
theorem cdX2_wants : yX2_wants.cls = RX2 ∧ yX2_wants.cls ≠ "java/lang/invoke/MethodHandle" ∧ yX2_wants.cls ≠ "java/lang/invoke/VarHandle" ∧ (parseMethodDescriptor yX2_wants.desc).map (fun d => d.parameters.length) = some 1 := by decide +kernel
set_option maxHeartbeats 4000000 in
set_option maxRecDepth 100000 in
theorem mvX2_wants (l : Launch) {D : va_G} {cA : Nat → ClassId} {A : Nat → Prop} (a0 : Nat) (a1 : Int32) (V : VS) (MC MS : Nat) (Post : VS → Prop) (PX : Nat → Nat → VS → Prop) (h : vX2_wants cA a0 a1 V MC MS Post PX) : vx_Met l yX2_wants (ws_ yX2_wants cX2_wants 2 none) (rX2_wants MC MS) (vPc [.ref a0, .int a1] D cA A V) (va_Qv Post (vB D A) A) (vX D A PX) MC MS A := by
  refine vst (own := RX2) (by decide) rfl (Nat.le_of_ble_eq_true rfl) ?_
  intro p e s m args below meth c ls X hret hV hS hl
  obtain ⟨S, hK, hG, hA, hnm, hlocks, htab⟩ := X
  have hx := S.1
  have hb := S.2.1
  have hk : 0 ≤ MC ∧ 0 ≤ MS := ⟨Nat.zero_le _, Nat.zero_le _⟩
  have hl : lv_has ls 2 [(0, .ref a0), (1, .int a1)] := hl
  unfold vX2_wants at h
  refine lv_aload_n hx hb dX2_wants_0 rfl (lv_at hl 0 rfl) ?_
  refine lv_iload_n hx hb dX2_wants_1 rfl (lv_at hl 1 rfl) ?_
  refine lv_iload_n hx hb dX2_wants_2 rfl (lv_at hl 1 rfl) ?_
  obtain ⟨o_3, e_4, h⟩ := bO_e h
  refine vk_i (vr_V (As := [.int a1, .int a1]) (rest := []) S hK hG hA hV hS e_4 rfl (mvX2_isWord l a0 a1 a1 V _ h) (cwV 2 S.2.2.2.2 (lw_V q511 q513 qs7 q140 q514) rfl rfl rfl cdX2_isWord ⟨Nat.le_of_ble_eq_true rfl, Nat.le_of_ble_eq_true rfl⟩) rfl hl.1 (Nat.le_of_ble_eq_true rfl) dX2_wants_3 ⟨hk.1, hk.2⟩) hS (fun r_1 V_2 H locs h hV hS => ?_)
  refine lv_if_ne (tgt := 15) hx hb dX2_wants_6 (by decide) (fun c_5 => ?_) (fun c_5 => ?_)
  · replace h := h.2 c_5
    refine lv_aload_n hx hb dX2_wants_15 rfl (lv_at hl 0 rfl) ?_
    obtain ⟨o_8, e_9, h⟩ := bO_e h
    refine vk_v (vr_V (As := []) (rest := []) S hK hG hA hV hS e_9 rfl (mvX2_next l a0 V_2 _ h) (cwV 0 S.2.2.2.2 (lw_V q376 q378 qs1 q140 q379) rfl rfl rfl cdX2_next ⟨Nat.le_of_ble_eq_true rfl, Nat.le_of_ble_eq_true rfl⟩) rfl hl.1 (Nat.le_of_ble_eq_true rfl) dX2_wants_16 ⟨hk.1, hk.2⟩) hS (fun V_7 H locs h hV hS => ?_)
    exact vx_ret (ve_v S hlocks hret hV hS h hk.1 hk.2 dX2_wants_19)
  · replace h := h.1 c_5
    refine lv_aload_n hx hb dX2_wants_9 rfl (lv_at hl 0 rfl) ?_
    refine lv_iconst hx hb dX2_wants_10 kc_1 ?_
    obtain ⟨mc_12, ms_13, hc1, hc2, h⟩ := h
    obtain ⟨o_14, e_15, h⟩ := bO_e h
    refine vk_q (vr_V (As := [.int (1 : Int32)]) (rest := []) S hK hG hA hV hS e_15 rfl (mvX2_wrong l a0 (1 : Int32) V_2 mc_12 ms_13 _ h) (cwV 1 S.2.2.2.2 (lw_V q515 q517 qs8 q140 q518) rfl rfl rfl cdX2_wrong ⟨Nat.le_of_ble_eq_true rfl, Nat.le_of_ble_eq_true rfl⟩) rfl hl.1 (Nat.le_of_ble_eq_true rfl) dX2_wants_11 ⟨hc1, hc2⟩) hS (fun p_10 V_11 H locs h hV hS => ?_)
    have hk : 0 + mc_12 ≤ MC ∧ 0 + ms_13 ≤ MS := ⟨hc1, hc2⟩
    obtain ⟨n_16, z_n_16, h9⟩ := bO_e h
    clear h; subst z_n_16; have h := h9; clear h9
    obtain ⟨o_17, e_18, h⟩ := bO_e h
    exact vt_F hx hb htab hlocks hK hV hS e_18 h hk.1 hk.2 dX2_wants_14
def vX6_init (cA : Nat → ClassId) (a0 : Nat) (a1 : Int32) (a2 : Int32) (a3 : Int32) (V : VS) (Post : VS → Prop) : Prop := bO (pF V [5] a0 3 (.int (-1 : Int32))) (fun V_1 => bO (pF V_1 [5] a0 4 (.int (-1 : Int32))) (fun V_3 => bO (pF V_3 [5] a0 0 (.int a1)) (fun V_5 => bO (pF V_5 [5] a0 1 (.int a2)) (fun V_7 => bO (pF V_7 [5] a0 2 (.int a3)) (fun V_9 => Post V_9)))))
abbrev rX6_init : Room := { frames := 1, cells := 0, slots := 0, locals := 24 }
theorem cdX6_init : yX6_init.cls ≠ "java/lang/invoke/MethodHandle" ∧ yX6_init.cls ≠ "java/lang/invoke/VarHandle" ∧ (parseMethodDescriptor yX6_init.desc).map (fun d => d.parameters.length) = some 3 := by decide +kernel
set_option maxHeartbeats 4000000 in
set_option maxRecDepth 100000 in
theorem mvX6_init (l : Launch) {D : va_G} {cA : Nat → ClassId} {A : Nat → Prop} (a0 : Nat) (a1 : Int32) (a2 : Int32) (a3 : Int32) (V : VS) (Post : VS → Prop) (h : vX6_init cA a0 a1 a2 a3 V Post) : Met l yX6_init (ws_ yX6_init cX6_init 4 none) rX6_init (vPc [.ref a0, .int a1, .int a2, .int a3] D cA A V) (va_Qv Post (vB D A) A) 0 0 A := by
  refine vstM (own := RX6) (by decide) rfl (Nat.le_of_ble_eq_true rfl) ?_
  intro p e s m args below meth c ls X hret hV hS hl
  obtain ⟨S, hK, hG, hA, hnm, hlocks⟩ := X
  have hx := S.1
  have hb := S.2.1
  have hl : lv_has ls 4 [(0, .ref a0), (1, .int a1), (2, .int a2), (3, .int a3)] := hl
  unfold vX6_init at h
  refine lv_aload_n hx hb dX6_init_0 rfl (lv_at hl 0 rfl) ?_
  refine W.objInit hx hb S.2.2.2.1 (S.2.2.2.2 _ q638) (S.2.2.2.2 _ q181) (S.2.2.2.2 _ q182) rfl (hl.1.trans S.2.2.1.symm) rfl dX6_init_1 (Nat.le_of_ble_eq_true rfl) (Nat.le_of_ble_eq_true rfl) ?_
  refine W.eq (g2 := F0 m 4 ls []) rfl ?_
  refine lv_aload_n hx hb dX6_init_4 rfl (lv_at hl 0 rfl) ?_
  refine lv_iconst hx hb dX6_init_5 kc_m1 ?_
  obtain ⟨V_1, e_2, h⟩ := bO_e h
  refine vp_v (v := .int (-1 : Int32)) S hK hV hS fX6_9 (Or.inl rfl) rfl rfl e_2 dX6_init_6 (fun H locs hV hS => ?_)
  refine lv_aload_n hx hb dX6_init_9 rfl (lv_at hl 0 rfl) ?_
  refine lv_iconst hx hb dX6_init_10 kc_m1 ?_
  obtain ⟨V_3, e_4, h⟩ := bO_e h
  refine vp_v (v := .int (-1 : Int32)) S hK hV hS fX6_15 (Or.inl rfl) rfl rfl e_4 dX6_init_11 (fun H locs hV hS => ?_)
  refine lv_aload_n hx hb dX6_init_14 rfl (lv_at hl 0 rfl) ?_
  refine lv_iload_n hx hb dX6_init_15 rfl (lv_at hl 1 rfl) ?_
  obtain ⟨V_5, e_6, h⟩ := bO_e h
  refine vp_v (v := .int a1) S hK hV hS fX6_18 (Or.inr ⟨hnm, by decide +kernel, by decide +kernel⟩) rfl rfl e_6 dX6_init_16 (fun H locs hV hS => ?_)
  refine lv_aload_n hx hb dX6_init_19 rfl (lv_at hl 0 rfl) ?_
  refine lv_iload_n hx hb dX6_init_20 rfl (lv_at hl 2 rfl) ?_
  obtain ⟨V_7, e_8, h⟩ := bO_e h
  refine vp_v (v := .int a2) S hK hV hS fX6_21 (Or.inr ⟨hnm, by decide +kernel, by decide +kernel⟩) rfl rfl e_8 dX6_init_21 (fun H locs hV hS => ?_)
  refine lv_aload_n hx hb dX6_init_24 rfl (lv_at hl 0 rfl) ?_
  refine lv_iload_n hx hb dX6_init_25 rfl (lv_at hl 3 rfl) ?_
  obtain ⟨V_9, e_10, h⟩ := bO_e h
  refine vp_v (v := .int a3) S hK hV hS fX6_24 (Or.inr ⟨hnm, by decide +kernel, by decide +kernel⟩) rfl rfl e_10 dX6_init_26 (fun H locs hV hS => ?_)
  exact ve_v S hlocks hret hV hS h (Nat.le_refl _) (Nat.le_refl _) dX6_init_29
def vX2_thing_c81 (cA : Nat → ClassId) (a0 : Nat) (MC MS : Nat) (k38 : Nat → VS → Nat → Nat → Prop) (Post : VS → Prop) (PX : Nat → Nat → VS → Prop) (x3 : Nat) (x4 : Int32) (t0 : Int32) (V : VS) (kc ks : Nat) : Prop := (t0 = (-1 : Int32) → (bO (vO V [2] a0) (fun o_53 => vX2_next cA a0 V (fun V_52 => ∃ mc_57 ms_58 : Nat, kc + mc_57 ≤ MC ∧ ks + ms_58 ≤ MS ∧ bO (vO V_52 [2] a0) (fun o_59 => vX2_number cA a0 (0 : Int32) (199 : Int32) V_52 mc_57 ms_58 (fun r_55 V_56 => (x4 = 0 → (bO (pF V_56 [5] x3 4 (.int r_55)) (fun V_62 => k38 x3 V_62 (kc + mc_57) (ks + ms_58)))) ∧ (¬ (x4 = 0) → (bO (pF V_56 [5] x3 3 (.int r_55)) (fun V_64 => k38 x3 V_64 (kc + mc_57) (ks + ms_58))))) PX))))) ∧ (¬ (t0 = (-1 : Int32)) → (∃ mc_68 ms_69 : Nat, kc + mc_68 ≤ MC ∧ ks + ms_69 ≤ MS ∧ bO (vO V [2] a0) (fun o_70 => vX2_wrong cA a0 (3 : Int32) V mc_68 ms_69 (fun p_66 V_67 => bO p_66 (fun n_72 => bO (vO V_67 [4] n_72) (fun o_73 => PX 0 n_72 V_67))))))
def vX2_thing_c63 (cA : Nat → ClassId) (a0 : Nat) (MC MS : Nat) (k38 : Nat → VS → Nat → Nat → Prop) (Post : VS → Prop) (PX : Nat → Nat → VS → Prop) (x3 : Nat) (t0 : Int32) (V : VS) (kc ks : Nat) : Prop := (t0 = 0 → (bO (gI V [5] x3 4) (fun g_48 => vX2_thing_c81 cA a0 MC MS k38 Post PX x3 t0 g_48 V kc ks))) ∧ (¬ (t0 = 0) → (bO (gI V [5] x3 3) (fun g_75 => vX2_thing_c81 cA a0 MC MS k38 Post PX x3 t0 g_75 V kc ks)))
def vX2_thing_l38 (cA : Nat → ClassId) (a0 : Nat) (MC MS : Nat) (Post : VS → Prop) (PX : Nat → Nat → VS → Prop) : Nat → Nat → VS → Nat → Nat → Prop
  | 0, _, _, _, _ => False
  | n + 1, x3, V, kc, ks => bO (vO V [2] a0) (fun o_31 => vX2_isWord cA a0 (9 : Int32) (10 : Int32) V (fun r_29 V_30 => (r_29 = 0 → (bO (gR V_30 [2] a0 6) (fun p_34 => bO p_34 (fun n_36 => bO (gR V_30 [3] n_36 0) (fun p_37 => bO p_37 (fun n_39 => bO (vO V_30 [14] n_39) (fun o_42 => vJ2_add cA n_39 x3 V_30 (fun r_40 V_41 => Post V_41)))))))) ∧ (¬ (r_29 = 0) → (bO (gI V_30 [2] a0 4) (fun g_44 => (g_44 = (9 : Int32) → (vX2_thing_c63 cA a0 MC MS (vX2_thing_l38 cA a0 MC MS Post PX n) Post PX x3 (1 : Int32) V_30 kc ks)) ∧ (¬ (g_44 = (9 : Int32)) → (vX2_thing_c63 cA a0 MC MS (vX2_thing_l38 cA a0 MC MS Post PX n) Post PX x3 (0 : Int32) V_30 kc ks)))))))
def vX2_thing (cA : Nat → ClassId) (a0 : Nat) (V : VS) (MC MS : Nat) (Post : VS → Prop) (PX : Nat → Nat → VS → Prop) : Prop := ∃ mc_3 ms_4 : Nat, 0 + mc_3 ≤ MC ∧ 0 + ms_4 ≤ MS ∧ bO (vO V [2] a0) (fun o_5 => vX2_fresh cA a0 (1 : Int32) V mc_3 ms_4 (fun r_1 V_2 => ∃ mc_9 ms_10 : Nat, 0 + mc_3 + mc_9 ≤ MC ∧ 0 + ms_4 + ms_10 ≤ MS ∧ bO (vO V_2 [2] a0) (fun o_11 => vX2_number cA a0 (2 : Int32) (9 : Int32) V_2 mc_9 ms_10 (fun r_7 V_8 => ∃ mc_15 ms_16 : Nat, 0 + mc_3 + mc_9 + mc_15 ≤ MC ∧ 0 + ms_4 + ms_10 + ms_16 ≤ MS ∧ bO (vO V_8 [2] a0) (fun o_17 => vX2_wants cA a0 (8 : Int32) V_8 mc_15 ms_16 (fun V_14 => (0 + mc_3 + mc_9 + mc_15 + 1 ≤ MC ∧ 0 + ms_4 + ms_10 + ms_16 + 5 ≤ MS ∧ ∀ (q_19 : Nat) (V_20 : VS), V_14 q_19 = none → V_20 = vU V_14 q_19 (.inr (5, [.int 0, .int 0, .int 0, .int 0, .int 0])) → ∃ mc_23 ms_24 : Nat, 0 + mc_3 + mc_9 + mc_15 + 1 + mc_23 ≤ MC ∧ 0 + ms_4 + ms_10 + ms_16 + 5 + ms_24 ≤ MS ∧ bO (vO V_20 [2] a0) (fun o_25 => vX2_number cA a0 (0 : Int32) (r_7 - (1 : Int32)) V_20 mc_23 ms_24 (fun r_21 V_22 => vX6_init cA q_19 r_1 r_7 r_21 V_22 (fun V_28 => ∃ f, vX2_thing_l38 cA a0 MC MS Post PX f q_19 V_28 (0 + mc_3 + mc_9 + mc_15 + 1 + mc_23) (0 + ms_4 + ms_10 + ms_16 + 5 + ms_24))) PX))) PX)) PX)) PX)
abbrev rX2_thing (MC MS : Nat) : Room := { frames := 7, cells := MC, slots := MS, locals := 155 }
theorem cdX2_thing : yX2_thing.cls = RX2 ∧ yX2_thing.cls ≠ "java/lang/invoke/MethodHandle" ∧ yX2_thing.cls ≠ "java/lang/invoke/VarHandle" ∧ (parseMethodDescriptor yX2_thing.desc).map (fun d => d.parameters.length) = some 0 := by decide +kernel
set_option maxHeartbeats 4000000 in
set_option maxRecDepth 100000 in
theorem mvX2_thing (l : Launch) {D : va_G} {cA : Nat → ClassId} {A : Nat → Prop} (a0 : Nat) (V : VS) (MC MS : Nat) (Post : VS → Prop) (PX : Nat → Nat → VS → Prop) (h : vX2_thing cA a0 V MC MS Post PX) : vx_Met l yX2_thing (ws_ yX2_thing cX2_thing 6 none) (rX2_thing MC MS) (vPc [.ref a0] D cA A V) (va_Qv Post (vB D A) A) (vX D A PX) MC MS A := by
  refine vst (own := RX2) (by decide) rfl (Nat.le_of_ble_eq_true rfl) ?_
  intro p e s m args below meth c ls X hret hV hS hl
  obtain ⟨S, hK, hG, hA, hnm, hlocks, htab⟩ := X
  have hx := S.1
  have hb := S.2.1
  have hk : 0 ≤ MC ∧ 0 ≤ MS := ⟨Nat.zero_le _, Nat.zero_le _⟩
  have hl : lv_has ls 6 [(0, .ref a0)] := hl
  have C81 : ∀ (k38 : Nat → VS → Nat → Nat → Prop) (K38 : (∀ (x3 : Nat) (V : VS) (kc ks : Nat) (H : Heap) (locs : List Loc) (ls : Array Slot), HV D A V H → va_S A s.heap H locs → (kc ≤ MC ∧ ks ≤ MS) → lv_has ls 6 [(0, .ref a0), (3, .ref x3)] → k38 x3 V kc ks → W p l e (rX2_thing MC MS) s m args below meth c H locs kc ks (vx_MQ below (va_Qv Post (vB D A) A) (vX D A PX) args s MC MS A) (F0 m 38 ls []))), ∀ (x3 : Nat) (x4 : Int32) (t0 : Int32) (V : VS) (kc ks : Nat) (H : Heap) (locs : List Loc) (ls : Array Slot), HV D A V H → va_S A s.heap H locs → (kc ≤ MC ∧ ks ≤ MS) → lv_has ls 6 [(0, .ref a0), (3, .ref x3), (4, .int x4)] → vX2_thing_c81 cA a0 MC MS k38 Post PX x3 x4 t0 V kc ks → W p l e (rX2_thing MC MS) s m args below meth c H locs kc ks (vx_MQ below (va_Qv Post (vB D A) A) (vX D A PX) args s MC MS A) (F0 m 81 ls [.int t0]) := by
    intro k38 K38
    intro x3 x4 t0 V kc ks H locs ls hV hS hk hl h
    unfold vX2_thing_c81 at h
    refine lv_iconst hx hb dX2_thing_81 kc_m1 ?_
    refine lv_icmp_eq (tgt := 91) hx hb dX2_thing_82 (by decide) (fun c_50 => ?_) (fun c_50 => ?_)
    · replace h := h.1 c_50
      refine lv_aload_n hx hb dX2_thing_91 rfl (lv_at hl 0 rfl) ?_
      obtain ⟨o_53, e_54, h⟩ := bO_e h
      refine vk_v (vr_V (As := []) (rest := []) S hK hG hA hV hS e_54 rfl (mvX2_next l a0 V _ h) (cwV 0 S.2.2.2.2 (lw_V q376 q378 qs1 q140 q379) rfl rfl rfl cdX2_next ⟨Nat.le_of_ble_eq_true rfl, Nat.le_of_ble_eq_true rfl⟩) rfl hl.1 (Nat.le_of_ble_eq_true rfl) dX2_thing_92 ⟨hk.1, hk.2⟩) hS (fun V_52 H locs h hV hS => ?_)
      refine lv_aload_n hx hb dX2_thing_95 rfl (lv_at hl 0 rfl) ?_
      refine lv_iconst hx hb dX2_thing_96 kc_0 ?_
      refine lv_sipush hx hb dX2_thing_97 ks_199 ?_
      obtain ⟨mc_57, ms_58, hc1, hc2, h⟩ := h
      obtain ⟨o_59, e_60, h⟩ := bO_e h
      refine vy_i (vr_VX (As := [.int (0 : Int32), .int (199 : Int32)]) (rest := []) S hK hG hA hV hS e_60 rfl (mvX2_number l a0 (0 : Int32) (199 : Int32) V_52 mc_57 ms_58 _ _ h) (cwV 2 S.2.2.2.2 (lw_V q625 q627 qs12 q140 q628) rfl rfl rfl cdX2_number ⟨Nat.le_of_ble_eq_true rfl, Nat.le_of_ble_eq_true rfl⟩) rfl hl.1 (Nat.le_of_ble_eq_true rfl) dX2_thing_100 ⟨hc1, hc2⟩) hS (vo_X htab hlocks hc1 hc2) (fun r_55 V_56 H locs h hV hS => ?_)
      have hk : kc + mc_57 ≤ MC ∧ ks + ms_58 ≤ MS := ⟨hc1, hc2⟩
      refine lv_istore (lv' := [(5, .int r_55), (0, .ref a0), (3, .ref x3), (4, .int x4)]) hx hb dX2_thing_103 hl (by decide) rfl (fun ls hl => ?_)
      refine lv_iload hx hb dX2_thing_105 (lv_at hl 3 rfl) ?_
      refine lv_if_eq (tgt := 119) hx hb dX2_thing_107 (by decide) (fun c_61 => ?_) (fun c_61 => ?_)
      · replace h := h.1 c_61
        refine lv_aload_n hx hb dX2_thing_119 rfl (lv_at hl 2 rfl) ?_
        refine lv_iload hx hb dX2_thing_120 (lv_at hl 0 rfl) ?_
        obtain ⟨V_62, e_63, h⟩ := bO_e h
        refine vp_v (v := .int r_55) S hK hV hS fX2_169 (Or.inl rfl) rfl rfl e_63 dX2_thing_122 (fun H locs hV hS => ?_)
        refine lv_goto (tgt := 38) hx hb dX2_thing_125 (by decide) ?_
        exact K38 _ _ _ _ _ _ _ hV hS hk (lv_sub hl [1, 2] rfl) h
      · replace h := h.2 c_61
        refine lv_aload_n hx hb dX2_thing_110 rfl (lv_at hl 2 rfl) ?_
        refine lv_iload hx hb dX2_thing_111 (lv_at hl 0 rfl) ?_
        obtain ⟨V_64, e_65, h⟩ := bO_e h
        refine vp_v (v := .int r_55) S hK hV hS fX2_166 (Or.inl rfl) rfl rfl e_65 dX2_thing_113 (fun H locs hV hS => ?_)
        refine lv_goto (tgt := 125) hx hb dX2_thing_116 (by decide) ?_
        refine lv_goto (tgt := 38) hx hb dX2_thing_125 (by decide) ?_
        exact K38 _ _ _ _ _ _ _ hV hS hk (lv_sub hl [1, 2] rfl) h
    · replace h := h.2 c_50
      refine lv_aload_n hx hb dX2_thing_85 rfl (lv_at hl 0 rfl) ?_
      refine lv_iconst hx hb dX2_thing_86 kc_3 ?_
      obtain ⟨mc_68, ms_69, hc1, hc2, h⟩ := h
      obtain ⟨o_70, e_71, h⟩ := bO_e h
      refine vk_q (vr_V (As := [.int (3 : Int32)]) (rest := []) S hK hG hA hV hS e_71 rfl (mvX2_wrong l a0 (3 : Int32) V mc_68 ms_69 _ h) (cwV 1 S.2.2.2.2 (lw_V q515 q517 qs8 q140 q518) rfl rfl rfl cdX2_wrong ⟨Nat.le_of_ble_eq_true rfl, Nat.le_of_ble_eq_true rfl⟩) rfl hl.1 (Nat.le_of_ble_eq_true rfl) dX2_thing_87 ⟨hc1, hc2⟩) hS (fun p_66 V_67 H locs h hV hS => ?_)
      have hk : kc + mc_68 ≤ MC ∧ ks + ms_69 ≤ MS := ⟨hc1, hc2⟩
      obtain ⟨n_72, z_n_72, h9⟩ := bO_e h
      clear h; subst z_n_72; have h := h9; clear h9
      obtain ⟨o_73, e_74, h⟩ := bO_e h
      exact vt_F hx hb htab hlocks hK hV hS e_74 h hk.1 hk.2 dX2_thing_90
  have C63 : ∀ (k38 : Nat → VS → Nat → Nat → Prop) (K38 : (∀ (x3 : Nat) (V : VS) (kc ks : Nat) (H : Heap) (locs : List Loc) (ls : Array Slot), HV D A V H → va_S A s.heap H locs → (kc ≤ MC ∧ ks ≤ MS) → lv_has ls 6 [(0, .ref a0), (3, .ref x3)] → k38 x3 V kc ks → W p l e (rX2_thing MC MS) s m args below meth c H locs kc ks (vx_MQ below (va_Qv Post (vB D A) A) (vX D A PX) args s MC MS A) (F0 m 38 ls []))), ∀ (x3 : Nat) (t0 : Int32) (V : VS) (kc ks : Nat) (H : Heap) (locs : List Loc) (ls : Array Slot), HV D A V H → va_S A s.heap H locs → (kc ≤ MC ∧ ks ≤ MS) → lv_has ls 6 [(0, .ref a0), (3, .ref x3)] → vX2_thing_c63 cA a0 MC MS k38 Post PX x3 t0 V kc ks → W p l e (rX2_thing MC MS) s m args below meth c H locs kc ks (vx_MQ below (va_Qv Post (vB D A) A) (vX D A PX) args s MC MS A) (F0 m 63 ls [.int t0]) := by
    intro k38 K38
    intro x3 t0 V kc ks H locs ls hV hS hk hl h
    unfold vX2_thing_c63 at h
    refine lv_istore (lv' := [(4, .int t0), (0, .ref a0), (3, .ref x3)]) hx hb dX2_thing_63 hl (by decide) rfl (fun ls hl => ?_)
    refine lv_iload hx hb dX2_thing_65 (lv_at hl 0 rfl) ?_
    refine lv_if_eq (tgt := 77) hx hb dX2_thing_67 (by decide) (fun c_47 => ?_) (fun c_47 => ?_)
    · replace h := h.1 c_47
      refine lv_aload_n hx hb dX2_thing_77 rfl (lv_at hl 2 rfl) ?_
      obtain ⟨g_48, e_49, h⟩ := bO_e h
      refine vg_i S hK hV fX2_169 e_49 dX2_thing_78 ?_
      exact C81 _ K38 _ _ _ _ _ _ _ _ _ hV hS hk (lv_sub hl [1, 2, 0] rfl) h
    · replace h := h.2 c_47
      refine lv_aload_n hx hb dX2_thing_70 rfl (lv_at hl 2 rfl) ?_
      obtain ⟨g_75, e_76, h⟩ := bO_e h
      refine vg_i S hK hV fX2_166 e_76 dX2_thing_71 ?_
      refine lv_goto (tgt := 81) hx hb dX2_thing_74 (by decide) ?_
      exact C81 _ K38 _ _ _ _ _ _ _ _ _ hV hS hk (lv_sub hl [1, 2, 0] rfl) h
  have L38 : ∀ (n : Nat) (x3 : Nat) (V : VS) (kc ks : Nat) (H : Heap) (locs : List Loc) (ls : Array Slot), HV D A V H → va_S A s.heap H locs → (kc ≤ MC ∧ ks ≤ MS) → lv_has ls 6 [(0, .ref a0), (3, .ref x3)] → vX2_thing_l38 cA a0 MC MS Post PX n x3 V kc ks → W p l e (rX2_thing MC MS) s m args below meth c H locs kc ks (vx_MQ below (va_Qv Post (vB D A) A) (vX D A PX) args s MC MS A) (F0 m 38 ls []) := by
    intro n
    induction n with
    | zero => intro x3 V kc ks H locs ls hV hS hk hl h; rw [vX2_thing_l38] at h; exact h.elim
    | succ n ih =>
      intro x3 V kc ks H locs ls hV hS hk hl h
      rw [vX2_thing_l38] at h
      refine lv_aload_n hx hb dX2_thing_38 rfl (lv_at hl 0 rfl) ?_
      refine lv_bipush hx hb dX2_thing_39 kb_9 ?_
      refine lv_bipush hx hb dX2_thing_41 kb_10 ?_
      obtain ⟨o_31, e_32, h⟩ := bO_e h
      refine vk_i (vr_V (As := [.int (9 : Int32), .int (10 : Int32)]) (rest := []) S hK hG hA hV hS e_32 rfl (mvX2_isWord l a0 (9 : Int32) (10 : Int32) V _ h) (cwV 2 S.2.2.2.2 (lw_V q511 q513 qs7 q140 q514) rfl rfl rfl cdX2_isWord ⟨Nat.le_of_ble_eq_true rfl, Nat.le_of_ble_eq_true rfl⟩) rfl hl.1 (Nat.le_of_ble_eq_true rfl) dX2_thing_43 ⟨hk.1, hk.2⟩) hS (fun r_29 V_30 H locs h hV hS => ?_)
      refine lv_if_eq (tgt := 128) hx hb dX2_thing_46 (by decide) (fun c_33 => ?_) (fun c_33 => ?_)
      · replace h := h.1 c_33
        refine lv_aload_n hx hb dX2_thing_128 rfl (lv_at hl 0 rfl) ?_
        obtain ⟨p_34, e_35, h⟩ := bO_e h
        refine vg_r S hK hV fX2_93 e_35 dX2_thing_129 ?_
        obtain ⟨n_36, z_n_36, h9⟩ := bO_e h
        clear h; subst z_n_36; have h := h9; clear h9
        obtain ⟨p_37, e_38, h⟩ := bO_e h
        refine vg_r S hK hV fX2_100 e_38 dX2_thing_132 ?_
        refine lv_aload_n hx hb dX2_thing_135 rfl (lv_at hl 1 rfl) ?_
        obtain ⟨n_39, z_n_39, h9⟩ := bO_e h
        clear h; subst z_n_39; have h := h9; clear h9
        obtain ⟨o_42, e_43, h⟩ := bO_e h
        refine vk_i (vr_V (As := [.ref x3]) (rest := []) S hK hG hA hV hS e_43 rfl (mvJ2_add l n_39 x3 V_30 _ h) (cwV 1 S.2.2.2.2 (lw_V q664 q665 q666 q144 q667) rfl rfl rfl cdJ2_add ⟨Nat.le_of_ble_eq_true rfl, Nat.le_of_ble_eq_true rfl⟩) rfl hl.1 (Nat.le_of_ble_eq_true rfl) dX2_thing_136 ⟨hk.1, hk.2⟩) hS (fun r_40 V_41 H locs h hV hS => ?_)
        refine lv_pop hx hb dX2_thing_139 rfl ?_
        exact vx_ret (ve_v S hlocks hret hV hS h hk.1 hk.2 dX2_thing_140)
      · replace h := h.2 c_33
        refine lv_aload_n hx hb dX2_thing_49 rfl (lv_at hl 0 rfl) ?_
        obtain ⟨g_44, e_45, h⟩ := bO_e h
        refine vg_i S hK hV fX2_43 e_45 dX2_thing_50 ?_
        refine lv_bipush hx hb dX2_thing_53 kb_9 ?_
        refine lv_icmp_ne (tgt := 62) hx hb dX2_thing_55 (by decide) (fun c_46 => ?_) (fun c_46 => ?_)
        · replace h := h.2 c_46
          refine lv_iconst hx hb dX2_thing_62 kc_0 ?_
          exact C63 _ ih _ _ _ _ _ _ _ _ hV hS hk (lv_sub hl [0, 1] rfl) h
        · replace h := h.1 c_46
          refine lv_iconst hx hb dX2_thing_58 kc_1 ?_
          refine lv_goto (tgt := 63) hx hb dX2_thing_59 (by decide) ?_
          exact C63 _ ih _ _ _ _ _ _ _ _ hV hS hk (lv_sub hl [0, 1] rfl) h
  unfold vX2_thing at h
  refine lv_aload_n hx hb dX2_thing_0 rfl (lv_at hl 0 rfl) ?_
  refine lv_iconst hx hb dX2_thing_1 kc_1 ?_
  obtain ⟨mc_3, ms_4, hc1, hc2, h⟩ := h
  obtain ⟨o_5, e_6, h⟩ := bO_e h
  refine vy_i (vr_VX (As := [.int (1 : Int32)]) (rest := []) S hK hG hA hV hS e_6 rfl (mvX2_fresh l a0 (1 : Int32) V mc_3 ms_4 _ _ h) (cwV 1 S.2.2.2.2 (lw_V q598 q600 qs11 q140 q601) rfl rfl rfl cdX2_fresh ⟨Nat.le_of_ble_eq_true rfl, Nat.le_of_ble_eq_true rfl⟩) rfl hl.1 (Nat.le_of_ble_eq_true rfl) dX2_thing_2 ⟨hc1, hc2⟩) hS (vo_X htab hlocks hc1 hc2) (fun r_1 V_2 H locs h hV hS => ?_)
  have hk : 0 + mc_3 ≤ MC ∧ 0 + ms_4 ≤ MS := ⟨hc1, hc2⟩
  refine lv_istore_n (lv' := [(1, .int r_1), (0, .ref a0)]) hx hb dX2_thing_5 rfl hl (by decide) rfl (fun ls hl => ?_)
  refine lv_aload_n hx hb dX2_thing_6 rfl (lv_at hl 1 rfl) ?_
  refine lv_iconst hx hb dX2_thing_7 kc_2 ?_
  refine lv_bipush hx hb dX2_thing_8 kb_9 ?_
  obtain ⟨mc_9, ms_10, hc1, hc2, h⟩ := h
  obtain ⟨o_11, e_12, h⟩ := bO_e h
  refine vy_i (vr_VX (As := [.int (2 : Int32), .int (9 : Int32)]) (rest := []) S hK hG hA hV hS e_12 rfl (mvX2_number l a0 (2 : Int32) (9 : Int32) V_2 mc_9 ms_10 _ _ h) (cwV 2 S.2.2.2.2 (lw_V q625 q627 qs12 q140 q628) rfl rfl rfl cdX2_number ⟨Nat.le_of_ble_eq_true rfl, Nat.le_of_ble_eq_true rfl⟩) rfl hl.1 (Nat.le_of_ble_eq_true rfl) dX2_thing_10 ⟨hc1, hc2⟩) hS (vo_X htab hlocks hc1 hc2) (fun r_7 V_8 H locs h hV hS => ?_)
  have hk : 0 + mc_3 + mc_9 ≤ MC ∧ 0 + ms_4 + ms_10 ≤ MS := ⟨hc1, hc2⟩
  refine lv_istore_n (lv' := [(2, .int r_7), (1, .int r_1), (0, .ref a0)]) hx hb dX2_thing_13 rfl hl (by decide) rfl (fun ls hl => ?_)
  refine lv_aload_n hx hb dX2_thing_14 rfl (lv_at hl 2 rfl) ?_
  refine lv_bipush hx hb dX2_thing_15 kb_8 ?_
  obtain ⟨mc_15, ms_16, hc1, hc2, h⟩ := h
  obtain ⟨o_17, e_18, h⟩ := bO_e h
  refine vy_v (vr_VX (As := [.int (8 : Int32)]) (rest := []) S hK hG hA hV hS e_18 rfl (mvX2_wants l a0 (8 : Int32) V_8 mc_15 ms_16 _ _ h) (cwV 1 S.2.2.2.2 (lw_V q629 q631 qs13 q140 q632) rfl rfl rfl cdX2_wants ⟨Nat.le_of_ble_eq_true rfl, Nat.le_of_ble_eq_true rfl⟩) rfl hl.1 (Nat.le_of_ble_eq_true rfl) dX2_thing_17 ⟨hc1, hc2⟩) hS (vo_X htab hlocks hc1 hc2) (fun V_14 H locs h hV hS => ?_)
  have hk : 0 + mc_3 + mc_9 + mc_15 ≤ MC ∧ 0 + ms_4 + ms_10 + ms_16 ≤ MS := ⟨hc1, hc2⟩
  obtain ⟨hc1, hc2, h⟩ := h
  refine vw_new (ci := 5) (fs := [.int 0, .int 0, .int 0, .int 0, .int 0]) (C := RX6) (T := TX6) (N := 5) S hK hV hS hA in_X6 tyX6 tyX6_ok q633 q634 q156 rfl (fun j hj => by first | (rcases j with _ | _ | _ | _ | _ | _ | _ | _ | _ | _ | _ | _ | _ | _ | _ | _ | _ | _ | _ | _ | _ | j <;> first | rfl | omega)) hc1 hc2 dX2_thing_20 (fun q_19 V_20 H g1 g2 hV hS => ?_)
  replace h := h q_19 V_20 g1 g2
  have hk : 0 + mc_3 + mc_9 + mc_15 + 1 ≤ MC ∧ 0 + ms_4 + ms_10 + ms_16 + 5 ≤ MS := ⟨hc1, hc2⟩
  refine lv_dup hx hb dX2_thing_23 rfl ?_
  refine lv_iload_n hx hb dX2_thing_24 rfl (lv_at hl 1 rfl) ?_
  refine lv_iload_n hx hb dX2_thing_25 rfl (lv_at hl 0 rfl) ?_
  refine lv_aload_n hx hb dX2_thing_26 rfl (lv_at hl 2 rfl) ?_
  refine lv_iconst hx hb dX2_thing_27 kc_0 ?_
  refine lv_iload_n hx hb dX2_thing_28 rfl (lv_at hl 0 rfl) ?_
  refine lv_iconst hx hb dX2_thing_29 kc_1 ?_
  refine lv_isub hx hb dX2_thing_30 ?_
  obtain ⟨mc_23, ms_24, hc1, hc2, h⟩ := h
  obtain ⟨o_25, e_26, h⟩ := bO_e h
  refine vy_i (vr_VX (As := [.int (0 : Int32), .int (r_7 - (1 : Int32))]) (rest := [.int r_7, .int r_1, .ref q_19, .ref q_19]) S hK hG hA hV hS e_26 rfl (mvX2_number l a0 (0 : Int32) (r_7 - (1 : Int32)) V_20 mc_23 ms_24 _ _ h) (cwV 2 S.2.2.2.2 (lw_V q625 q627 qs12 q140 q628) rfl rfl rfl cdX2_number ⟨Nat.le_of_ble_eq_true rfl, Nat.le_of_ble_eq_true rfl⟩) rfl hl.1 (Nat.le_of_ble_eq_true rfl) dX2_thing_31 ⟨hc1, hc2⟩) hS (vo_X htab hlocks hc1 hc2) (fun r_21 V_22 H locs h hV hS => ?_)
  have hk : 0 + mc_3 + mc_9 + mc_15 + 1 + mc_23 ≤ MC ∧ 0 + ms_4 + ms_10 + ms_16 + 5 + ms_24 ≤ MS := ⟨hc1, hc2⟩
  refine vk_v (vr_I (As := [.int r_1, .int r_7, .int r_21]) (rest := [.ref q_19]) S hK hG hA hV hS (mvX6_init l q_19 r_1 r_7 r_21 V_22 _ h) (cwI 3 S.2.2.2.2 (lw_meth q637) rfl rfl rfl (S.2.2.2.2 _ q156) (S.2.2.2.2 _ q635) (S.2.2.2.2 _ q636) rfl cdX6_init ⟨Nat.le_of_ble_eq_true rfl, Nat.le_of_ble_eq_true rfl⟩) rfl hl.1 (Nat.le_of_ble_eq_true rfl) dX2_thing_34 ⟨hk.1, hk.2⟩) hS (fun V_28 H locs h hV hS => ?_)
  refine lv_astore_n (lv' := [(3, .ref q_19), (2, .int r_7), (1, .int r_1), (0, .ref a0)]) hx hb dX2_thing_37 rfl hl (by decide) rfl (fun ls hl => ?_)
  obtain ⟨f, h⟩ := h
  exact L38 f _ _ _ _ _ _ _ hV hS hk (lv_sub hl [3, 0] rfl) h
def vX7_init (cA : Nat → ClassId) (a0 : Nat) (a1 : Int32) (a2 : Int32) (a3 : Int32) (a4 : Int32) (V : VS) (Post : VS → Prop) : Prop := bO (pF V [6] a0 4 (.int (-1 : Int32))) (fun V_1 => bO (pF V_1 [6] a0 0 (.int a1)) (fun V_3 => bO (pF V_3 [6] a0 1 (.int a2)) (fun V_5 => bO (pF V_5 [6] a0 2 (.int a3)) (fun V_7 => bO (pF V_7 [6] a0 3 (.int a4)) (fun V_9 => Post V_9)))))
abbrev rX7_init : Room := { frames := 1, cells := 0, slots := 0, locals := 24 }
theorem cdX7_init : yX7_init.cls ≠ "java/lang/invoke/MethodHandle" ∧ yX7_init.cls ≠ "java/lang/invoke/VarHandle" ∧ (parseMethodDescriptor yX7_init.desc).map (fun d => d.parameters.length) = some 4 := by decide +kernel
set_option maxHeartbeats 4000000 in
set_option maxRecDepth 100000 in
theorem mvX7_init (l : Launch) {D : va_G} {cA : Nat → ClassId} {A : Nat → Prop} (a0 : Nat) (a1 : Int32) (a2 : Int32) (a3 : Int32) (a4 : Int32) (V : VS) (Post : VS → Prop) (h : vX7_init cA a0 a1 a2 a3 a4 V Post) : Met l yX7_init (ws_ yX7_init cX7_init 5 none) rX7_init (vPc [.ref a0, .int a1, .int a2, .int a3, .int a4] D cA A V) (va_Qv Post (vB D A) A) 0 0 A := by
  refine vstM (own := RX7) (by decide) rfl (Nat.le_of_ble_eq_true rfl) ?_
  intro p e s m args below meth c ls X hret hV hS hl
  obtain ⟨S, hK, hG, hA, hnm, hlocks⟩ := X
  have hx := S.1
  have hb := S.2.1
  have hl : lv_has ls 5 [(0, .ref a0), (1, .int a1), (2, .int a2), (3, .int a3), (4, .int a4)] := hl
  unfold vX7_init at h
  refine lv_aload_n hx hb dX7_init_0 rfl (lv_at hl 0 rfl) ?_
  refine W.objInit hx hb S.2.2.2.1 (S.2.2.2.2 _ q735) (S.2.2.2.2 _ q181) (S.2.2.2.2 _ q182) rfl (hl.1.trans S.2.2.1.symm) rfl dX7_init_1 (Nat.le_of_ble_eq_true rfl) (Nat.le_of_ble_eq_true rfl) ?_
  refine W.eq (g2 := F0 m 4 ls []) rfl ?_
  refine lv_aload_n hx hb dX7_init_4 rfl (lv_at hl 0 rfl) ?_
  refine lv_iconst hx hb dX7_init_5 kc_m1 ?_
  obtain ⟨V_1, e_2, h⟩ := bO_e h
  refine vp_v (v := .int (-1 : Int32)) S hK hV hS fX7_9 (Or.inl rfl) rfl rfl e_2 dX7_init_6 (fun H locs hV hS => ?_)
  refine lv_aload_n hx hb dX7_init_9 rfl (lv_at hl 0 rfl) ?_
  refine lv_iload_n hx hb dX7_init_10 rfl (lv_at hl 1 rfl) ?_
  obtain ⟨V_3, e_4, h⟩ := bO_e h
  refine vp_v (v := .int a1) S hK hV hS fX7_15 (Or.inr ⟨hnm, by decide +kernel, by decide +kernel⟩) rfl rfl e_4 dX7_init_11 (fun H locs hV hS => ?_)
  refine lv_aload_n hx hb dX7_init_14 rfl (lv_at hl 0 rfl) ?_
  refine lv_iload_n hx hb dX7_init_15 rfl (lv_at hl 2 rfl) ?_
  obtain ⟨V_5, e_6, h⟩ := bO_e h
  refine vp_v (v := .int a2) S hK hV hS fX7_18 (Or.inr ⟨hnm, by decide +kernel, by decide +kernel⟩) rfl rfl e_6 dX7_init_16 (fun H locs hV hS => ?_)
  refine lv_aload_n hx hb dX7_init_19 rfl (lv_at hl 0 rfl) ?_
  refine lv_iload_n hx hb dX7_init_20 rfl (lv_at hl 3 rfl) ?_
  obtain ⟨V_7, e_8, h⟩ := bO_e h
  refine vp_v (v := .int a3) S hK hV hS fX7_21 (Or.inr ⟨hnm, by decide +kernel, by decide +kernel⟩) rfl rfl e_8 dX7_init_21 (fun H locs hV hS => ?_)
  refine lv_aload_n hx hb dX7_init_24 rfl (lv_at hl 0 rfl) ?_
  refine lv_iload hx hb dX7_init_25 (lv_at hl 4 rfl) ?_
  obtain ⟨V_9, e_10, h⟩ := bO_e h
  refine vp_v (v := .int a4) S hK hV hS fX7_24 (Or.inr ⟨hnm, by decide +kernel, by decide +kernel⟩) rfl rfl e_10 dX7_init_27 (fun H locs hV hS => ?_)
  exact ve_v S hlocks hret hV hS h (Nat.le_refl _) (Nat.le_refl _) dX7_init_30
def vX2_teller_c85 (cA : Nat → ClassId) (a0 : Nat) (MC MS : Nat) (Post : VS → Prop) (PX : Nat → Nat → VS → Prop) (x4 : Nat) (V : VS) (kc ks : Nat) : Prop := bO (gR V [2] a0 6) (fun p_46 => bO p_46 (fun n_48 => bO (gR V [3] n_48 1) (fun p_49 => bO p_49 (fun n_51 => bO (vO V [14] n_51) (fun o_54 => vJ2_add cA n_51 x4 V (fun r_52 V_53 => Post V_53))))))
def vX2_teller (cA : Nat → ClassId) (a0 : Nat) (V : VS) (MC MS : Nat) (Post : VS → Prop) (PX : Nat → Nat → VS → Prop) : Prop := ∃ mc_3 ms_4 : Nat, 0 + mc_3 ≤ MC ∧ 0 + ms_4 ≤ MS ∧ bO (vO V [2] a0) (fun o_5 => vX2_fresh cA a0 (0 : Int32) V mc_3 ms_4 (fun r_1 V_2 => ∃ mc_9 ms_10 : Nat, 0 + mc_3 + mc_9 ≤ MC ∧ 0 + ms_4 + ms_10 ≤ MS ∧ bO (vO V_2 [2] a0) (fun o_11 => vX2_number cA a0 (1 : Int32) (99 : Int32) V_2 mc_9 ms_10 (fun r_7 V_8 => ∃ mc_15 ms_16 : Nat, 0 + mc_3 + mc_9 + mc_15 ≤ MC ∧ 0 + ms_4 + ms_10 + ms_16 ≤ MS ∧ bO (vO V_8 [2] a0) (fun o_17 => vX2_wants cA a0 (11 : Int32) V_8 mc_15 ms_16 (fun V_14 => ∃ mc_21 ms_22 : Nat, 0 + mc_3 + mc_9 + mc_15 + mc_21 ≤ MC ∧ 0 + ms_4 + ms_10 + ms_16 + ms_22 ≤ MS ∧ bO (vO V_14 [2] a0) (fun o_23 => vX2_number cA a0 (0 : Int32) (199 : Int32) V_14 mc_21 ms_22 (fun r_19 V_20 => ∃ mc_27 ms_28 : Nat, 0 + mc_3 + mc_9 + mc_15 + mc_21 + mc_27 ≤ MC ∧ 0 + ms_4 + ms_10 + ms_16 + ms_22 + ms_28 ≤ MS ∧ bO (vO V_20 [2] a0) (fun o_29 => vX2_wants cA a0 (12 : Int32) V_20 mc_27 ms_28 (fun V_26 => (0 + mc_3 + mc_9 + mc_15 + mc_21 + mc_27 + 1 ≤ MC ∧ 0 + ms_4 + ms_10 + ms_16 + ms_22 + ms_28 + 5 ≤ MS ∧ ∀ (q_31 : Nat) (V_32 : VS), V_26 q_31 = none → V_32 = vU V_26 q_31 (.inr (6, [.int 0, .int 0, .int 0, .int 0, .int 0])) → ∃ mc_35 ms_36 : Nat, 0 + mc_3 + mc_9 + mc_15 + mc_21 + mc_27 + 1 + mc_35 ≤ MC ∧ 0 + ms_4 + ms_10 + ms_16 + ms_22 + ms_28 + 5 + ms_36 ≤ MS ∧ bO (vO V_32 [2] a0) (fun o_37 => vX2_number cA a0 r_19 (199 : Int32) V_32 mc_35 ms_36 (fun r_33 V_34 => vX7_init cA q_31 r_1 r_7 r_19 r_33 V_34 (fun V_40 => bO (vO V_40 [2] a0) (fun o_43 => vX2_isWord cA a0 (13 : Int32) (13 : Int32) V_40 (fun r_41 V_42 => (r_41 = 0 → (vX2_teller_c85 cA a0 MC MS Post PX q_31 V_42 (0 + mc_3 + mc_9 + mc_15 + mc_21 + mc_27 + 1 + mc_35) (0 + ms_4 + ms_10 + ms_16 + ms_22 + ms_28 + 5 + ms_36))) ∧ (¬ (r_41 = 0) → (bO (vO V_42 [2] a0) (fun o_58 => vX2_next cA a0 V_42 (fun V_57 => bO (gI V_57 [6] q_31 3) (fun g_60 => ∃ mc_64 ms_65 : Nat, 0 + mc_3 + mc_9 + mc_15 + mc_21 + mc_27 + 1 + mc_35 + mc_64 ≤ MC ∧ 0 + ms_4 + ms_10 + ms_16 + ms_22 + ms_28 + 5 + ms_36 + ms_65 ≤ MS ∧ bO (vO V_57 [2] a0) (fun o_66 => vX2_number cA a0 r_19 g_60 V_57 mc_64 ms_65 (fun r_62 V_63 => bO (pF V_63 [6] q_31 4 (.int r_62)) (fun V_68 => vX2_teller_c85 cA a0 MC MS Post PX q_31 V_68 (0 + mc_3 + mc_9 + mc_15 + mc_21 + mc_27 + 1 + mc_35 + mc_64) (0 + ms_4 + ms_10 + ms_16 + ms_22 + ms_28 + 5 + ms_36 + ms_65))) PX)))))))))) PX))) PX)) PX)) PX)) PX)) PX)
abbrev rX2_teller (MC MS : Nat) : Room := { frames := 7, cells := MC, slots := MS, locals := 155 }
theorem cdX2_teller : yX2_teller.cls = RX2 ∧ yX2_teller.cls ≠ "java/lang/invoke/MethodHandle" ∧ yX2_teller.cls ≠ "java/lang/invoke/VarHandle" ∧ (parseMethodDescriptor yX2_teller.desc).map (fun d => d.parameters.length) = some 0 := by decide +kernel
set_option maxHeartbeats 4000000 in
set_option maxRecDepth 100000 in
theorem mvX2_teller (l : Launch) {D : va_G} {cA : Nat → ClassId} {A : Nat → Prop} (a0 : Nat) (V : VS) (MC MS : Nat) (Post : VS → Prop) (PX : Nat → Nat → VS → Prop) (h : vX2_teller cA a0 V MC MS Post PX) : vx_Met l yX2_teller (ws_ yX2_teller cX2_teller 5 none) (rX2_teller MC MS) (vPc [.ref a0] D cA A V) (va_Qv Post (vB D A) A) (vX D A PX) MC MS A := by
  refine vst (own := RX2) (by decide) rfl (Nat.le_of_ble_eq_true rfl) ?_
  intro p e s m args below meth c ls X hret hV hS hl
  obtain ⟨S, hK, hG, hA, hnm, hlocks, htab⟩ := X
  have hx := S.1
  have hb := S.2.1
  have hk : 0 ≤ MC ∧ 0 ≤ MS := ⟨Nat.zero_le _, Nat.zero_le _⟩
  have hl : lv_has ls 5 [(0, .ref a0)] := hl
  have C85 : ∀ (x4 : Nat) (V : VS) (kc ks : Nat) (H : Heap) (locs : List Loc) (ls : Array Slot), HV D A V H → va_S A s.heap H locs → (kc ≤ MC ∧ ks ≤ MS) → lv_has ls 5 [(0, .ref a0), (4, .ref x4)] → vX2_teller_c85 cA a0 MC MS Post PX x4 V kc ks → W p l e (rX2_teller MC MS) s m args below meth c H locs kc ks (vx_MQ below (va_Qv Post (vB D A) A) (vX D A PX) args s MC MS A) (F0 m 85 ls []) := by
    intro x4 V kc ks H locs ls hV hS hk hl h
    unfold vX2_teller_c85 at h
    refine lv_aload_n hx hb dX2_teller_85 rfl (lv_at hl 0 rfl) ?_
    obtain ⟨p_46, e_47, h⟩ := bO_e h
    refine vg_r S hK hV fX2_93 e_47 dX2_teller_86 ?_
    obtain ⟨n_48, z_n_48, h9⟩ := bO_e h
    clear h; subst z_n_48; have h := h9; clear h9
    obtain ⟨p_49, e_50, h⟩ := bO_e h
    refine vg_r S hK hV fX2_108 e_50 dX2_teller_89 ?_
    refine lv_aload hx hb dX2_teller_92 (lv_at hl 1 rfl) ?_
    obtain ⟨n_51, z_n_51, h9⟩ := bO_e h
    clear h; subst z_n_51; have h := h9; clear h9
    obtain ⟨o_54, e_55, h⟩ := bO_e h
    refine vk_i (vr_V (As := [.ref x4]) (rest := []) S hK hG hA hV hS e_55 rfl (mvJ2_add l n_51 x4 V _ h) (cwV 1 S.2.2.2.2 (lw_V q664 q665 q666 q144 q667) rfl rfl rfl cdJ2_add ⟨Nat.le_of_ble_eq_true rfl, Nat.le_of_ble_eq_true rfl⟩) rfl hl.1 (Nat.le_of_ble_eq_true rfl) dX2_teller_94 ⟨hk.1, hk.2⟩) hS (fun r_52 V_53 H locs h hV hS => ?_)
    refine lv_pop hx hb dX2_teller_97 rfl ?_
    exact vx_ret (ve_v S hlocks hret hV hS h hk.1 hk.2 dX2_teller_98)
  unfold vX2_teller at h
  refine lv_aload_n hx hb dX2_teller_0 rfl (lv_at hl 0 rfl) ?_
  refine lv_iconst hx hb dX2_teller_1 kc_0 ?_
  obtain ⟨mc_3, ms_4, hc1, hc2, h⟩ := h
  obtain ⟨o_5, e_6, h⟩ := bO_e h
  refine vy_i (vr_VX (As := [.int (0 : Int32)]) (rest := []) S hK hG hA hV hS e_6 rfl (mvX2_fresh l a0 (0 : Int32) V mc_3 ms_4 _ _ h) (cwV 1 S.2.2.2.2 (lw_V q598 q600 qs11 q140 q601) rfl rfl rfl cdX2_fresh ⟨Nat.le_of_ble_eq_true rfl, Nat.le_of_ble_eq_true rfl⟩) rfl hl.1 (Nat.le_of_ble_eq_true rfl) dX2_teller_2 ⟨hc1, hc2⟩) hS (vo_X htab hlocks hc1 hc2) (fun r_1 V_2 H locs h hV hS => ?_)
  have hk : 0 + mc_3 ≤ MC ∧ 0 + ms_4 ≤ MS := ⟨hc1, hc2⟩
  refine lv_istore_n (lv' := [(1, .int r_1), (0, .ref a0)]) hx hb dX2_teller_5 rfl hl (by decide) rfl (fun ls hl => ?_)
  refine lv_aload_n hx hb dX2_teller_6 rfl (lv_at hl 1 rfl) ?_
  refine lv_iconst hx hb dX2_teller_7 kc_1 ?_
  refine lv_bipush hx hb dX2_teller_8 kb_99 ?_
  obtain ⟨mc_9, ms_10, hc1, hc2, h⟩ := h
  obtain ⟨o_11, e_12, h⟩ := bO_e h
  refine vy_i (vr_VX (As := [.int (1 : Int32), .int (99 : Int32)]) (rest := []) S hK hG hA hV hS e_12 rfl (mvX2_number l a0 (1 : Int32) (99 : Int32) V_2 mc_9 ms_10 _ _ h) (cwV 2 S.2.2.2.2 (lw_V q625 q627 qs12 q140 q628) rfl rfl rfl cdX2_number ⟨Nat.le_of_ble_eq_true rfl, Nat.le_of_ble_eq_true rfl⟩) rfl hl.1 (Nat.le_of_ble_eq_true rfl) dX2_teller_10 ⟨hc1, hc2⟩) hS (vo_X htab hlocks hc1 hc2) (fun r_7 V_8 H locs h hV hS => ?_)
  have hk : 0 + mc_3 + mc_9 ≤ MC ∧ 0 + ms_4 + ms_10 ≤ MS := ⟨hc1, hc2⟩
  refine lv_istore_n (lv' := [(2, .int r_7), (1, .int r_1), (0, .ref a0)]) hx hb dX2_teller_13 rfl hl (by decide) rfl (fun ls hl => ?_)
  refine lv_aload_n hx hb dX2_teller_14 rfl (lv_at hl 2 rfl) ?_
  refine lv_bipush hx hb dX2_teller_15 kb_11 ?_
  obtain ⟨mc_15, ms_16, hc1, hc2, h⟩ := h
  obtain ⟨o_17, e_18, h⟩ := bO_e h
  refine vy_v (vr_VX (As := [.int (11 : Int32)]) (rest := []) S hK hG hA hV hS e_18 rfl (mvX2_wants l a0 (11 : Int32) V_8 mc_15 ms_16 _ _ h) (cwV 1 S.2.2.2.2 (lw_V q629 q631 qs13 q140 q632) rfl rfl rfl cdX2_wants ⟨Nat.le_of_ble_eq_true rfl, Nat.le_of_ble_eq_true rfl⟩) rfl hl.1 (Nat.le_of_ble_eq_true rfl) dX2_teller_17 ⟨hc1, hc2⟩) hS (vo_X htab hlocks hc1 hc2) (fun V_14 H locs h hV hS => ?_)
  have hk : 0 + mc_3 + mc_9 + mc_15 ≤ MC ∧ 0 + ms_4 + ms_10 + ms_16 ≤ MS := ⟨hc1, hc2⟩
  refine lv_aload_n hx hb dX2_teller_20 rfl (lv_at hl 2 rfl) ?_
  refine lv_iconst hx hb dX2_teller_21 kc_0 ?_
  refine lv_sipush hx hb dX2_teller_22 ks_199 ?_
  obtain ⟨mc_21, ms_22, hc1, hc2, h⟩ := h
  obtain ⟨o_23, e_24, h⟩ := bO_e h
  refine vy_i (vr_VX (As := [.int (0 : Int32), .int (199 : Int32)]) (rest := []) S hK hG hA hV hS e_24 rfl (mvX2_number l a0 (0 : Int32) (199 : Int32) V_14 mc_21 ms_22 _ _ h) (cwV 2 S.2.2.2.2 (lw_V q625 q627 qs12 q140 q628) rfl rfl rfl cdX2_number ⟨Nat.le_of_ble_eq_true rfl, Nat.le_of_ble_eq_true rfl⟩) rfl hl.1 (Nat.le_of_ble_eq_true rfl) dX2_teller_25 ⟨hc1, hc2⟩) hS (vo_X htab hlocks hc1 hc2) (fun r_19 V_20 H locs h hV hS => ?_)
  have hk : 0 + mc_3 + mc_9 + mc_15 + mc_21 ≤ MC ∧ 0 + ms_4 + ms_10 + ms_16 + ms_22 ≤ MS := ⟨hc1, hc2⟩
  refine lv_istore_n (lv' := [(3, .int r_19), (2, .int r_7), (1, .int r_1), (0, .ref a0)]) hx hb dX2_teller_28 rfl hl (by decide) rfl (fun ls hl => ?_)
  refine lv_aload_n hx hb dX2_teller_29 rfl (lv_at hl 3 rfl) ?_
  refine lv_bipush hx hb dX2_teller_30 kb_12 ?_
  obtain ⟨mc_27, ms_28, hc1, hc2, h⟩ := h
  obtain ⟨o_29, e_30, h⟩ := bO_e h
  refine vy_v (vr_VX (As := [.int (12 : Int32)]) (rest := []) S hK hG hA hV hS e_30 rfl (mvX2_wants l a0 (12 : Int32) V_20 mc_27 ms_28 _ _ h) (cwV 1 S.2.2.2.2 (lw_V q629 q631 qs13 q140 q632) rfl rfl rfl cdX2_wants ⟨Nat.le_of_ble_eq_true rfl, Nat.le_of_ble_eq_true rfl⟩) rfl hl.1 (Nat.le_of_ble_eq_true rfl) dX2_teller_32 ⟨hc1, hc2⟩) hS (vo_X htab hlocks hc1 hc2) (fun V_26 H locs h hV hS => ?_)
  have hk : 0 + mc_3 + mc_9 + mc_15 + mc_21 + mc_27 ≤ MC ∧ 0 + ms_4 + ms_10 + ms_16 + ms_22 + ms_28 ≤ MS := ⟨hc1, hc2⟩
  obtain ⟨hc1, hc2, h⟩ := h
  refine vw_new (ci := 6) (fs := [.int 0, .int 0, .int 0, .int 0, .int 0]) (C := RX7) (T := TX7) (N := 5) S hK hV hS hA in_X7 tyX7 tyX7_ok q730 q731 q160 rfl (fun j hj => by first | (rcases j with _ | _ | _ | _ | _ | _ | _ | _ | _ | _ | _ | _ | _ | _ | _ | _ | _ | _ | _ | _ | _ | j <;> first | rfl | omega)) hc1 hc2 dX2_teller_35 (fun q_31 V_32 H g1 g2 hV hS => ?_)
  replace h := h q_31 V_32 g1 g2
  have hk : 0 + mc_3 + mc_9 + mc_15 + mc_21 + mc_27 + 1 ≤ MC ∧ 0 + ms_4 + ms_10 + ms_16 + ms_22 + ms_28 + 5 ≤ MS := ⟨hc1, hc2⟩
  refine lv_dup hx hb dX2_teller_38 rfl ?_
  refine lv_iload_n hx hb dX2_teller_39 rfl (lv_at hl 2 rfl) ?_
  refine lv_iload_n hx hb dX2_teller_40 rfl (lv_at hl 1 rfl) ?_
  refine lv_iload_n hx hb dX2_teller_41 rfl (lv_at hl 0 rfl) ?_
  refine lv_aload_n hx hb dX2_teller_42 rfl (lv_at hl 3 rfl) ?_
  refine lv_iload_n hx hb dX2_teller_43 rfl (lv_at hl 0 rfl) ?_
  refine lv_sipush hx hb dX2_teller_44 ks_199 ?_
  obtain ⟨mc_35, ms_36, hc1, hc2, h⟩ := h
  obtain ⟨o_37, e_38, h⟩ := bO_e h
  refine vy_i (vr_VX (As := [.int r_19, .int (199 : Int32)]) (rest := [.int r_19, .int r_7, .int r_1, .ref q_31, .ref q_31]) S hK hG hA hV hS e_38 rfl (mvX2_number l a0 r_19 (199 : Int32) V_32 mc_35 ms_36 _ _ h) (cwV 2 S.2.2.2.2 (lw_V q625 q627 qs12 q140 q628) rfl rfl rfl cdX2_number ⟨Nat.le_of_ble_eq_true rfl, Nat.le_of_ble_eq_true rfl⟩) rfl hl.1 (Nat.le_of_ble_eq_true rfl) dX2_teller_47 ⟨hc1, hc2⟩) hS (vo_X htab hlocks hc1 hc2) (fun r_33 V_34 H locs h hV hS => ?_)
  have hk : 0 + mc_3 + mc_9 + mc_15 + mc_21 + mc_27 + 1 + mc_35 ≤ MC ∧ 0 + ms_4 + ms_10 + ms_16 + ms_22 + ms_28 + 5 + ms_36 ≤ MS := ⟨hc1, hc2⟩
  refine vk_v (vr_I (As := [.int r_1, .int r_7, .int r_19, .int r_33]) (rest := [.ref q_31]) S hK hG hA hV hS (mvX7_init l q_31 r_1 r_7 r_19 r_33 V_34 _ h) (cwI 4 S.2.2.2.2 (lw_meth q734) rfl rfl rfl (S.2.2.2.2 _ q160) (S.2.2.2.2 _ q732) (S.2.2.2.2 _ q733) rfl cdX7_init ⟨Nat.le_of_ble_eq_true rfl, Nat.le_of_ble_eq_true rfl⟩) rfl hl.1 (Nat.le_of_ble_eq_true rfl) dX2_teller_50 ⟨hk.1, hk.2⟩) hS (fun V_40 H locs h hV hS => ?_)
  refine lv_astore (lv' := [(4, .ref q_31), (3, .int r_19), (2, .int r_7), (1, .int r_1), (0, .ref a0)]) hx hb dX2_teller_53 hl (by decide) rfl (fun ls hl => ?_)
  refine lv_aload_n hx hb dX2_teller_55 rfl (lv_at hl 4 rfl) ?_
  refine lv_bipush hx hb dX2_teller_56 kb_13 ?_
  refine lv_bipush hx hb dX2_teller_58 kb_13 ?_
  obtain ⟨o_43, e_44, h⟩ := bO_e h
  refine vk_i (vr_V (As := [.int (13 : Int32), .int (13 : Int32)]) (rest := []) S hK hG hA hV hS e_44 rfl (mvX2_isWord l a0 (13 : Int32) (13 : Int32) V_40 _ h) (cwV 2 S.2.2.2.2 (lw_V q511 q513 qs7 q140 q514) rfl rfl rfl cdX2_isWord ⟨Nat.le_of_ble_eq_true rfl, Nat.le_of_ble_eq_true rfl⟩) rfl hl.1 (Nat.le_of_ble_eq_true rfl) dX2_teller_60 ⟨hk.1, hk.2⟩) hS (fun r_41 V_42 H locs h hV hS => ?_)
  refine lv_if_eq (tgt := 85) hx hb dX2_teller_63 (by decide) (fun c_45 => ?_) (fun c_45 => ?_)
  · replace h := h.1 c_45
    exact C85 _ _ _ _ _ _ _ hV hS hk (lv_sub hl [4, 0] rfl) h
  · replace h := h.2 c_45
    refine lv_aload_n hx hb dX2_teller_66 rfl (lv_at hl 4 rfl) ?_
    obtain ⟨o_58, e_59, h⟩ := bO_e h
    refine vk_v (vr_V (As := []) (rest := []) S hK hG hA hV hS e_59 rfl (mvX2_next l a0 V_42 _ h) (cwV 0 S.2.2.2.2 (lw_V q376 q378 qs1 q140 q379) rfl rfl rfl cdX2_next ⟨Nat.le_of_ble_eq_true rfl, Nat.le_of_ble_eq_true rfl⟩) rfl hl.1 (Nat.le_of_ble_eq_true rfl) dX2_teller_67 ⟨hk.1, hk.2⟩) hS (fun V_57 H locs h hV hS => ?_)
    refine lv_aload hx hb dX2_teller_70 (lv_at hl 0 rfl) ?_
    refine lv_aload_n hx hb dX2_teller_72 rfl (lv_at hl 4 rfl) ?_
    refine lv_iload_n hx hb dX2_teller_73 rfl (lv_at hl 1 rfl) ?_
    refine lv_aload hx hb dX2_teller_74 (lv_at hl 0 rfl) ?_
    obtain ⟨g_60, e_61, h⟩ := bO_e h
    refine vg_i S hK hV fX2_181 e_61 dX2_teller_76 ?_
    obtain ⟨mc_64, ms_65, hc1, hc2, h⟩ := h
    obtain ⟨o_66, e_67, h⟩ := bO_e h
    refine vy_i (vr_VX (As := [.int r_19, .int g_60]) (rest := [.ref q_31]) S hK hG hA hV hS e_67 rfl (mvX2_number l a0 r_19 g_60 V_57 mc_64 ms_65 _ _ h) (cwV 2 S.2.2.2.2 (lw_V q625 q627 qs12 q140 q628) rfl rfl rfl cdX2_number ⟨Nat.le_of_ble_eq_true rfl, Nat.le_of_ble_eq_true rfl⟩) rfl hl.1 (Nat.le_of_ble_eq_true rfl) dX2_teller_79 ⟨hc1, hc2⟩) hS (vo_X htab hlocks hc1 hc2) (fun r_62 V_63 H locs h hV hS => ?_)
    have hk : 0 + mc_3 + mc_9 + mc_15 + mc_21 + mc_27 + 1 + mc_35 + mc_64 ≤ MC ∧ 0 + ms_4 + ms_10 + ms_16 + ms_22 + ms_28 + 5 + ms_36 + ms_65 ≤ MS := ⟨hc1, hc2⟩
    obtain ⟨V_68, e_69, h⟩ := bO_e h
    refine vp_v (v := .int r_62) S hK hV hS fX2_184 (Or.inl rfl) rfl rfl e_69 dX2_teller_82 (fun H locs hV hS => ?_)
    exact C85 _ _ _ _ _ _ _ hV hS hk (lv_sub hl [4, 0] rfl) h
def vX2_told_c43 (cA : Nat → ClassId) (a0 : Nat) (a1 : Int32) (MC MS : Nat) (Post : Int32 → VS → Prop) (PX : Nat → Nat → VS → Prop) (t0 : Int32) (V : VS) (kc ks : Nat) : Prop := (t0 = (-1 : Int32) → (∃ mc_21 ms_22 : Nat, kc + mc_21 ≤ MC ∧ ks + ms_22 ≤ MS ∧ bO (vO V [2] a0) (fun o_23 => vX2_wrong cA a0 (4 : Int32) V mc_21 ms_22 (fun p_19 V_20 => bO p_19 (fun n_25 => bO (vO V_20 [4] n_25) (fun o_26 => PX 0 n_25 V_20)))))) ∧ (¬ (t0 = (-1 : Int32)) → (bO (vO V [2] a0) (fun o_17 => vX2_next cA a0 V (fun V_16 => Post t0 V_16))))
def vX2_told (cA : Nat → ClassId) (a0 : Nat) (a1 : Int32) (V : VS) (MC MS : Nat) (Post : Int32 → VS → Prop) (PX : Nat → Nat → VS → Prop) : Prop := bO (gI V [2] a0 3) (fun g_1 => (g_1 = (1 : Int32) → ((a1 = 0 → (bO (gR V [2] a0 6) (fun p_5 => bO (gI V [2] a0 4) (fun g_7 => bO p_5 (fun n_9 => bO (vO V [3] n_9) (fun o_12 => vX3_teller cA n_9 g_7 V (fun r_10 V_11 => vX2_told_c43 cA a0 a1 MC MS Post PX r_10 V_11 0 0))))))) ∧ (¬ (a1 = 0) → (bO (gR V [2] a0 6) (fun p_28 => bO (gI V [2] a0 4) (fun g_30 => bO p_28 (fun n_32 => bO (vO V [3] n_32) (fun o_35 => vX3_thing cA n_32 g_30 V (fun r_33 V_34 => vX2_told_c43 cA a0 a1 MC MS Post PX r_33 V_34 0 0))))))))) ∧ (¬ (g_1 = (1 : Int32)) → (∃ mc_39 ms_40 : Nat, 0 + mc_39 ≤ MC ∧ 0 + ms_40 ≤ MS ∧ bO (vO V [2] a0) (fun o_41 => vX2_wrong cA a0 (1 : Int32) V mc_39 ms_40 (fun p_37 V_38 => bO p_37 (fun n_43 => bO (vO V_38 [4] n_43) (fun o_44 => PX 0 n_43 V_38)))))))
abbrev rX2_told (MC MS : Nat) : Room := { frames := 6, cells := MC, slots := MS, locals := 132 }
theorem cdX2_told : yX2_told.cls = RX2 ∧ yX2_told.cls ≠ "java/lang/invoke/MethodHandle" ∧ yX2_told.cls ≠ "java/lang/invoke/VarHandle" ∧ (parseMethodDescriptor yX2_told.desc).map (fun d => d.parameters.length) = some 1 := by decide +kernel
set_option maxHeartbeats 4000000 in
set_option maxRecDepth 100000 in
theorem mvX2_told (l : Launch) {D : va_G} {cA : Nat → ClassId} {A : Nat → Prop} (a0 : Nat) (a1 : Int32) (V : VS) (MC MS : Nat) (Post : Int32 → VS → Prop) (PX : Nat → Nat → VS → Prop) (h : vX2_told cA a0 a1 V MC MS Post PX) : vx_Met l yX2_told (ws_ yX2_told cX2_told 3 (some (.int))) (rX2_told MC MS) (vPc [.ref a0, .int a1] D cA A V) (va_Qi Post (vB D A) A) (vX D A PX) MC MS A := by
  refine vst (own := RX2) (by decide) rfl (Nat.le_of_ble_eq_true rfl) ?_
  intro p e s m args below meth c ls X hret hV hS hl
  obtain ⟨S, hK, hG, hA, hnm, hlocks, htab⟩ := X
  have hx := S.1
  have hb := S.2.1
  have hk : 0 ≤ MC ∧ 0 ≤ MS := ⟨Nat.zero_le _, Nat.zero_le _⟩
  have hl : lv_has ls 3 [(0, .ref a0), (1, .int a1)] := hl
  have C43 : ∀ (t0 : Int32) (V : VS) (kc ks : Nat) (H : Heap) (locs : List Loc) (ls : Array Slot), HV D A V H → va_S A s.heap H locs → (kc ≤ MC ∧ ks ≤ MS) → lv_has ls 3 [(0, .ref a0), (1, .int a1)] → vX2_told_c43 cA a0 a1 MC MS Post PX t0 V kc ks → W p l e (rX2_told MC MS) s m args below meth c H locs kc ks (vx_MQ below (va_Qi Post (vB D A) A) (vX D A PX) args s MC MS A) (F0 m 43 ls [.int t0]) := by
    intro t0 V kc ks H locs ls hV hS hk hl h
    unfold vX2_told_c43 at h
    refine lv_istore_n (lv' := [(2, .int t0), (0, .ref a0), (1, .int a1)]) hx hb dX2_told_43 rfl hl (by decide) rfl (fun ls hl => ?_)
    refine lv_iload_n hx hb dX2_told_44 rfl (lv_at hl 0 rfl) ?_
    refine lv_iconst hx hb dX2_told_45 kc_m1 ?_
    refine lv_icmp_ne (tgt := 55) hx hb dX2_told_46 (by decide) (fun c_14 => ?_) (fun c_14 => ?_)
    · replace h := h.2 c_14
      refine lv_aload_n hx hb dX2_told_55 rfl (lv_at hl 1 rfl) ?_
      obtain ⟨o_17, e_18, h⟩ := bO_e h
      refine vk_v (vr_V (As := []) (rest := []) S hK hG hA hV hS e_18 rfl (mvX2_next l a0 V _ h) (cwV 0 S.2.2.2.2 (lw_V q376 q378 qs1 q140 q379) rfl rfl rfl cdX2_next ⟨Nat.le_of_ble_eq_true rfl, Nat.le_of_ble_eq_true rfl⟩) rfl hl.1 (Nat.le_of_ble_eq_true rfl) dX2_told_56 ⟨hk.1, hk.2⟩) hS (fun V_16 H locs h hV hS => ?_)
      refine lv_iload_n hx hb dX2_told_59 rfl (lv_at hl 0 rfl) ?_
      exact vx_ret (ve_i S hlocks hret hV hS h rfl hk.1 hk.2 dX2_told_60)
    · replace h := h.1 c_14
      refine lv_aload_n hx hb dX2_told_49 rfl (lv_at hl 1 rfl) ?_
      refine lv_iconst hx hb dX2_told_50 kc_4 ?_
      obtain ⟨mc_21, ms_22, hc1, hc2, h⟩ := h
      obtain ⟨o_23, e_24, h⟩ := bO_e h
      refine vk_q (vr_V (As := [.int (4 : Int32)]) (rest := []) S hK hG hA hV hS e_24 rfl (mvX2_wrong l a0 (4 : Int32) V mc_21 ms_22 _ h) (cwV 1 S.2.2.2.2 (lw_V q515 q517 qs8 q140 q518) rfl rfl rfl cdX2_wrong ⟨Nat.le_of_ble_eq_true rfl, Nat.le_of_ble_eq_true rfl⟩) rfl hl.1 (Nat.le_of_ble_eq_true rfl) dX2_told_51 ⟨hc1, hc2⟩) hS (fun p_19 V_20 H locs h hV hS => ?_)
      have hk : kc + mc_21 ≤ MC ∧ ks + ms_22 ≤ MS := ⟨hc1, hc2⟩
      obtain ⟨n_25, z_n_25, h9⟩ := bO_e h
      clear h; subst z_n_25; have h := h9; clear h9
      obtain ⟨o_26, e_27, h⟩ := bO_e h
      exact vt_F hx hb htab hlocks hK hV hS e_27 h hk.1 hk.2 dX2_told_54
  unfold vX2_told at h
  refine lv_aload_n hx hb dX2_told_0 rfl (lv_at hl 0 rfl) ?_
  obtain ⟨g_1, e_2, h⟩ := bO_e h
  refine vg_i S hK hV fX2_33 e_2 dX2_told_1 ?_
  refine lv_iconst hx hb dX2_told_4 kc_1 ?_
  refine lv_icmp_eq (tgt := 14) hx hb dX2_told_5 (by decide) (fun c_3 => ?_) (fun c_3 => ?_)
  · replace h := h.1 c_3
    refine lv_iload_n hx hb dX2_told_14 rfl (lv_at hl 1 rfl) ?_
    refine lv_if_eq (tgt := 32) hx hb dX2_told_15 (by decide) (fun c_4 => ?_) (fun c_4 => ?_)
    · replace h := h.1 c_4
      refine lv_aload_n hx hb dX2_told_32 rfl (lv_at hl 0 rfl) ?_
      obtain ⟨p_5, e_6, h⟩ := bO_e h
      refine vg_r S hK hV fX2_93 e_6 dX2_told_33 ?_
      refine lv_aload_n hx hb dX2_told_36 rfl (lv_at hl 0 rfl) ?_
      obtain ⟨g_7, e_8, h⟩ := bO_e h
      refine vg_i S hK hV fX2_43 e_8 dX2_told_37 ?_
      obtain ⟨n_9, z_n_9, h9⟩ := bO_e h
      clear h; subst z_n_9; have h := h9; clear h9
      obtain ⟨o_12, e_13, h⟩ := bO_e h
      refine vk_i (vr_V (As := [.int g_7]) (rest := []) S hK hG hA hV hS e_13 rfl (mvX3_teller l n_9 g_7 V _ h) (cwV 1 S.2.2.2.2 (lw_V q620 q621 q622 q141 q623) rfl rfl rfl cdX3_teller ⟨Nat.le_of_ble_eq_true rfl, Nat.le_of_ble_eq_true rfl⟩) rfl hl.1 (Nat.le_of_ble_eq_true rfl) dX2_told_40 ⟨hk.1, hk.2⟩) hS (fun r_10 V_11 H locs h hV hS => ?_)
      exact C43 _ _ _ _ _ _ _ hV hS hk (lv_sub hl [0, 1] rfl) h
    · replace h := h.2 c_4
      refine lv_aload_n hx hb dX2_told_18 rfl (lv_at hl 0 rfl) ?_
      obtain ⟨p_28, e_29, h⟩ := bO_e h
      refine vg_r S hK hV fX2_93 e_29 dX2_told_19 ?_
      refine lv_aload_n hx hb dX2_told_22 rfl (lv_at hl 0 rfl) ?_
      obtain ⟨g_30, e_31, h⟩ := bO_e h
      refine vg_i S hK hV fX2_43 e_31 dX2_told_23 ?_
      obtain ⟨n_32, z_n_32, h9⟩ := bO_e h
      clear h; subst z_n_32; have h := h9; clear h9
      obtain ⟨o_35, e_36, h⟩ := bO_e h
      refine vk_i (vr_V (As := [.int g_30]) (rest := []) S hK hG hA hV hS e_36 rfl (mvX3_thing l n_32 g_30 V _ h) (cwV 1 S.2.2.2.2 (lw_V q602 q603 q604 q141 q605) rfl rfl rfl cdX3_thing ⟨Nat.le_of_ble_eq_true rfl, Nat.le_of_ble_eq_true rfl⟩) rfl hl.1 (Nat.le_of_ble_eq_true rfl) dX2_told_26 ⟨hk.1, hk.2⟩) hS (fun r_33 V_34 H locs h hV hS => ?_)
      refine lv_goto (tgt := 43) hx hb dX2_told_29 (by decide) ?_
      exact C43 _ _ _ _ _ _ _ hV hS hk (lv_sub hl [0, 1] rfl) h
  · replace h := h.2 c_3
    refine lv_aload_n hx hb dX2_told_8 rfl (lv_at hl 0 rfl) ?_
    refine lv_iconst hx hb dX2_told_9 kc_1 ?_
    obtain ⟨mc_39, ms_40, hc1, hc2, h⟩ := h
    obtain ⟨o_41, e_42, h⟩ := bO_e h
    refine vk_q (vr_V (As := [.int (1 : Int32)]) (rest := []) S hK hG hA hV hS e_42 rfl (mvX2_wrong l a0 (1 : Int32) V mc_39 ms_40 _ h) (cwV 1 S.2.2.2.2 (lw_V q515 q517 qs8 q140 q518) rfl rfl rfl cdX2_wrong ⟨Nat.le_of_ble_eq_true rfl, Nat.le_of_ble_eq_true rfl⟩) rfl hl.1 (Nat.le_of_ble_eq_true rfl) dX2_told_10 ⟨hc1, hc2⟩) hS (fun p_37 V_38 H locs h hV hS => ?_)
    have hk : 0 + mc_39 ≤ MC ∧ 0 + ms_40 ≤ MS := ⟨hc1, hc2⟩
    obtain ⟨n_43, z_n_43, h9⟩ := bO_e h
    clear h; subst z_n_43; have h := h9; clear h9
    obtain ⟨o_44, e_45, h⟩ := bO_e h
    exact vt_F hx hb htab hlocks hK hV hS e_45 h hk.1 hk.2 dX2_told_13
def vX2_talk_c173 (cA : Nat → ClassId) (a0 : Nat) (a1 : Int32) (MC MS : Nat) (Post : VS → Prop) (PX : Nat → Nat → VS → Prop) (t0 : Nat) (t1 : Option Nat) (V : VS) (kc ks : Nat) : Prop := bO t1 (fun n_94 => bO (vO V [14] n_94) (fun o_97 => vJ2_add cA n_94 t0 V (fun r_95 V_96 => Post V_96)))
def vX2_talk_c123 (cA : Nat → ClassId) (a0 : Nat) (a1 : Int32) (MC MS : Nat) (Post : VS → Prop) (PX : Nat → Nat → VS → Prop) (x2 : Int32) (x4 : Int32) (x5 : Int32) (x6 : Int32) (V : VS) (kc ks : Nat) : Prop := bO (gR V [2] a0 6) (fun p_81 => bO p_81 (fun n_83 => bO (gR V [3] n_83 2) (fun p_84 => (a1 = 0 → ((kc + 1 ≤ MC ∧ ks + 6 ≤ MS ∧ ∀ (q_87 : Nat) (V_88 : VS), V q_87 = none → V_88 = vU V q_87 (.inr (8, [.null, .null, .int 0, .int 0, .int 0, .int 0])) → bO (gR V_88 [2] a0 6) (fun p_89 => bO p_89 (fun n_91 => vX10_init cA q_87 n_91 x2 x4 x5 x6 V_88 (fun V_93 => vX2_talk_c173 cA a0 a1 MC MS Post PX q_87 p_84 V_93 (kc + 1) (ks + 6))))))) ∧ (¬ (a1 = 0) → ((kc + 1 ≤ MC ∧ ks + 6 ≤ MS ∧ ∀ (q_99 : Nat) (V_100 : VS), V q_99 = none → V_100 = vU V q_99 (.inr (7, [.null, .null, .int 0, .int 0, .int 0, .int 0])) → bO (gR V_100 [2] a0 6) (fun p_101 => bO p_101 (fun n_103 => vX9_init cA q_99 n_103 x2 x4 x5 x6 V_100 (fun V_105 => vX2_talk_c173 cA a0 a1 MC MS Post PX q_99 p_84 V_105 (kc + 1) (ks + 6))))))))))
def vX2_talk_c96 (cA : Nat → ClassId) (a0 : Nat) (a1 : Int32) (MC MS : Nat) (Post : VS → Prop) (PX : Nat → Nat → VS → Prop) (x2 : Int32) (x4 : Int32) (x5 : Int32) (V : VS) (kc ks : Nat) : Prop := bO (gR V [2] a0 6) (fun p_60 => bO p_60 (fun n_62 => bO (gR V [3] n_62 0) (fun p_63 => bO p_63 (fun n_65 => bO (vO V [14] n_65) (fun o_68 => vJ2_get cA n_65 x5 V (fun p_66 V_67 => bO p_66 (fun n_70 => bO (vO V_67 [5] n_70) (fun o_71 => bO (gI V_67 [5] n_70 1) (fun g_73 => ∃ mc_77 ms_78 : Nat, kc + mc_77 ≤ MC ∧ ks + ms_78 ≤ MS ∧ bO (vO V_67 [2] a0) (fun o_79 => vX2_number cA a0 (0 : Int32) (g_73 - (1 : Int32)) V_67 mc_77 ms_78 (fun r_75 V_76 => vX2_talk_c123 cA a0 a1 MC MS Post PX x2 x4 x5 r_75 V_76 (kc + mc_77) (ks + ms_78)) PX))))))))))
def vX2_talk (cA : Nat → ClassId) (a0 : Nat) (a1 : Int32) (V : VS) (MC MS : Nat) (Post : VS → Prop) (PX : Nat → Nat → VS → Prop) : Prop := ∃ mc_3 ms_4 : Nat, 0 + mc_3 ≤ MC ∧ 0 + ms_4 ≤ MS ∧ bO (vO V [2] a0) (fun o_5 => vX2_told cA a0 (0 : Int32) V mc_3 ms_4 (fun r_1 V_2 => bO (gI V_2 [2] a0 2) (fun g_7 => bO (gR V_2 [2] a0 6) (fun p_9 => bO p_9 (fun n_11 => bO (gR V_2 [3] n_11 1) (fun p_12 => bO p_12 (fun n_14 => bO (vO V_2 [14] n_14) (fun o_17 => vJ2_get cA n_14 r_1 V_2 (fun p_15 V_16 => bO p_15 (fun n_19 => bO (vO V_16 [6] n_19) (fun o_20 => bO (gI V_16 [6] n_19 2) (fun g_22 => bO (gR V_16 [2] a0 6) (fun p_24 => bO p_24 (fun n_26 => bO (gR V_16 [3] n_26 1) (fun p_27 => bO p_27 (fun n_29 => bO (vO V_16 [14] n_29) (fun o_32 => vJ2_get cA n_29 r_1 V_16 (fun p_30 V_31 => bO p_30 (fun n_34 => bO (vO V_31 [6] n_34) (fun o_35 => bO (gI V_31 [6] n_34 3) (fun g_37 => ∃ mc_41 ms_42 : Nat, 0 + mc_3 + mc_41 ≤ MC ∧ 0 + ms_4 + ms_42 ≤ MS ∧ bO (vO V_31 [2] a0) (fun o_43 => vX2_number cA a0 g_22 g_37 V_31 mc_41 ms_42 (fun r_39 V_40 => bO (gR V_40 [2] a0 6) (fun p_45 => bO p_45 (fun n_47 => bO (vO V_40 [3] n_47) (fun o_50 => vX3_latest cA n_47 r_1 V_40 (fun r_48 V_49 => (r_48 ≤ r_39 → (∃ mc_55 ms_56 : Nat, 0 + mc_3 + mc_41 + mc_55 ≤ MC ∧ 0 + ms_4 + ms_42 + ms_56 ≤ MS ∧ bO (vO V_49 [2] a0) (fun o_57 => vX2_told cA a0 (1 : Int32) V_49 mc_55 ms_56 (fun r_53 V_54 => (a1 = 0 → (bO (gI V_54 [2] a0 3) (fun g_106 => (g_106 = (2 : Int32) → (vX2_talk_c96 cA a0 a1 MC MS Post PX r_1 r_39 r_53 V_54 (0 + mc_3 + mc_41 + mc_55) (0 + ms_4 + ms_42 + ms_56))) ∧ (¬ (g_106 = (2 : Int32)) → (vX2_talk_c123 cA a0 a1 MC MS Post PX r_1 r_39 r_53 (-1 : Int32) V_54 (0 + mc_3 + mc_41 + mc_55) (0 + ms_4 + ms_42 + ms_56)))))) ∧ (¬ (a1 = 0) → (vX2_talk_c96 cA a0 a1 MC MS Post PX r_1 r_39 r_53 V_54 (0 + mc_3 + mc_41 + mc_55) (0 + ms_4 + ms_42 + ms_56)))) PX))) ∧ (¬ (r_48 ≤ r_39) → ((0 + mc_3 + mc_41 + 1 ≤ MC ∧ 0 + ms_4 + ms_42 + 8 ≤ MS ∧ ∀ (q_109 : Nat) (V_110 : VS), V_49 q_109 = none → V_110 = vU V_49 q_109 (.inr (4, [.null, .null, .null, .null, .null, .int 0, .int 0, .int 0])) → vX5_init cA q_109 (5 : Int32) g_7 V_110 (fun V_112 => bO (vO V_112 [4] q_109) (fun o_113 => PX 0 q_109 V_112)))))))))) PX))))))))))))))))))))) PX)
abbrev rX2_talk (MC MS : Nat) : Room := { frames := 7, cells := MC, slots := MS, locals := 155 }
theorem cdX2_talk : yX2_talk.cls = RX2 ∧ yX2_talk.cls ≠ "java/lang/invoke/MethodHandle" ∧ yX2_talk.cls ≠ "java/lang/invoke/VarHandle" ∧ (parseMethodDescriptor yX2_talk.desc).map (fun d => d.parameters.length) = some 1 := by decide +kernel
set_option maxHeartbeats 4000000 in
set_option maxRecDepth 100000 in
theorem mvX2_talk (l : Launch) {D : va_G} {cA : Nat → ClassId} {A : Nat → Prop} (a0 : Nat) (a1 : Int32) (V : VS) (MC MS : Nat) (Post : VS → Prop) (PX : Nat → Nat → VS → Prop) (h : vX2_talk cA a0 a1 V MC MS Post PX) : vx_Met l yX2_talk (ws_ yX2_talk cX2_talk 7 none) (rX2_talk MC MS) (vPc [.ref a0, .int a1] D cA A V) (va_Qv Post (vB D A) A) (vX D A PX) MC MS A := by
  refine vst (own := RX2) (by decide) rfl (Nat.le_of_ble_eq_true rfl) ?_
  intro p e s m args below meth c ls X hret hV hS hl
  obtain ⟨S, hK, hG, hA, hnm, hlocks, htab⟩ := X
  have hx := S.1
  have hb := S.2.1
  have hk : 0 ≤ MC ∧ 0 ≤ MS := ⟨Nat.zero_le _, Nat.zero_le _⟩
  have hl : lv_has ls 7 [(0, .ref a0), (1, .int a1)] := hl
  have C173 : ∀ (t0 : Nat) (t1 : Option Nat) (V : VS) (kc ks : Nat) (H : Heap) (locs : List Loc) (ls : Array Slot), HV D A V H → va_S A s.heap H locs → (kc ≤ MC ∧ ks ≤ MS) → lv_has ls 7 [(0, .ref a0), (1, .int a1)] → vX2_talk_c173 cA a0 a1 MC MS Post PX t0 t1 V kc ks → W p l e (rX2_talk MC MS) s m args below meth c H locs kc ks (vx_MQ below (va_Qv Post (vB D A) A) (vX D A PX) args s MC MS A) (F0 m 173 ls [.ref t0, va_rf t1]) := by
    intro t0 t1 V kc ks H locs ls hV hS hk hl h
    unfold vX2_talk_c173 at h
    obtain ⟨n_94, z_n_94, h9⟩ := bO_e h
    clear h; subst z_n_94; have h := h9; clear h9
    obtain ⟨o_97, e_98, h⟩ := bO_e h
    refine vk_i (vr_V (As := [.ref t0]) (rest := []) S hK hG hA hV hS e_98 rfl (mvJ2_add l n_94 t0 V _ h) (cwV 1 S.2.2.2.2 (lw_V q664 q665 q666 q144 q667) rfl rfl rfl cdJ2_add ⟨Nat.le_of_ble_eq_true rfl, Nat.le_of_ble_eq_true rfl⟩) rfl hl.1 (Nat.le_of_ble_eq_true rfl) dX2_talk_173 ⟨hk.1, hk.2⟩) hS (fun r_95 V_96 H locs h hV hS => ?_)
    refine lv_pop hx hb dX2_talk_176 rfl ?_
    exact vx_ret (ve_v S hlocks hret hV hS h hk.1 hk.2 dX2_talk_177)
  have C123 : ∀ (x2 : Int32) (x4 : Int32) (x5 : Int32) (x6 : Int32) (V : VS) (kc ks : Nat) (H : Heap) (locs : List Loc) (ls : Array Slot), HV D A V H → va_S A s.heap H locs → (kc ≤ MC ∧ ks ≤ MS) → lv_has ls 7 [(0, .ref a0), (1, .int a1), (2, .int x2), (4, .int x4), (5, .int x5), (6, .int x6)] → vX2_talk_c123 cA a0 a1 MC MS Post PX x2 x4 x5 x6 V kc ks → W p l e (rX2_talk MC MS) s m args below meth c H locs kc ks (vx_MQ below (va_Qv Post (vB D A) A) (vX D A PX) args s MC MS A) (F0 m 123 ls []) := by
    intro x2 x4 x5 x6 V kc ks H locs ls hV hS hk hl h
    unfold vX2_talk_c123 at h
    refine lv_aload_n hx hb dX2_talk_123 rfl (lv_at hl 0 rfl) ?_
    obtain ⟨p_81, e_82, h⟩ := bO_e h
    refine vg_r S hK hV fX2_93 e_82 dX2_talk_124 ?_
    obtain ⟨n_83, z_n_83, h9⟩ := bO_e h
    clear h; subst z_n_83; have h := h9; clear h9
    obtain ⟨p_84, e_85, h⟩ := bO_e h
    refine vg_r S hK hV fX2_111 e_85 dX2_talk_127 ?_
    refine lv_iload_n hx hb dX2_talk_130 rfl (lv_at hl 1 rfl) ?_
    refine lv_if_eq (tgt := 155) hx hb dX2_talk_131 (by decide) (fun c_86 => ?_) (fun c_86 => ?_)
    · replace h := h.1 c_86
      obtain ⟨hc1, hc2, h⟩ := h
      refine vw_new (ci := 8) (fs := [.null, .null, .int 0, .int 0, .int 0, .int 0]) (C := RX10) (T := TX10) (N := 6) S hK hV hS hA in_X10 tyX10 tyX10_ok q829 q830 q163 rfl (fun j hj => by first | (rcases j with _ | _ | _ | _ | _ | _ | _ | _ | _ | _ | _ | _ | _ | _ | _ | _ | _ | _ | _ | _ | _ | j <;> first | rfl | omega)) hc1 hc2 dX2_talk_155 (fun q_87 V_88 H g1 g2 hV hS => ?_)
      replace h := h q_87 V_88 g1 g2
      have hk : kc + 1 ≤ MC ∧ ks + 6 ≤ MS := ⟨hc1, hc2⟩
      refine lv_dup hx hb dX2_talk_158 rfl ?_
      refine lv_aload_n hx hb dX2_talk_159 rfl (lv_at hl 0 rfl) ?_
      obtain ⟨p_89, e_90, h⟩ := bO_e h
      refine vg_r S hK hV fX2_93 e_90 dX2_talk_160 ?_
      refine lv_iload_n hx hb dX2_talk_163 rfl (lv_at hl 2 rfl) ?_
      refine lv_iload hx hb dX2_talk_164 (lv_at hl 3 rfl) ?_
      refine lv_iload hx hb dX2_talk_166 (lv_at hl 4 rfl) ?_
      refine lv_iload hx hb dX2_talk_168 (lv_at hl 5 rfl) ?_
      obtain ⟨n_91, z_n_91, h9⟩ := bO_e h
      clear h; subst z_n_91; have h := h9; clear h9
      refine vk_v (vr_I (As := [.ref n_91, .int x2, .int x4, .int x5, .int x6]) (rest := [.ref q_87, va_rf p_84]) S hK hG hA hV hS (mvX10_init l q_87 n_91 x2 x4 x5 x6 V_88 _ h) (cwI 5 S.2.2.2.2 (lw_meth q833) rfl rfl rfl (S.2.2.2.2 _ q163) (S.2.2.2.2 _ q831) (S.2.2.2.2 _ q832) rfl cdX10_init ⟨Nat.le_of_ble_eq_true rfl, Nat.le_of_ble_eq_true rfl⟩) rfl hl.1 (by cases p_84 <;> exact Nat.le_of_ble_eq_true rfl) dX2_talk_170 ⟨hk.1, hk.2⟩) hS (fun V_93 H locs h hV hS => ?_)
      exact C173 _ _ _ _ _ _ _ _ hV hS hk (lv_sub hl [0, 1] rfl) h
    · replace h := h.2 c_86
      obtain ⟨hc1, hc2, h⟩ := h
      refine vw_new (ci := 7) (fs := [.null, .null, .int 0, .int 0, .int 0, .int 0]) (C := RX9) (T := TX9) (N := 6) S hK hV hS hA in_X9 tyX9 tyX9_ok q776 q777 q162 rfl (fun j hj => by first | (rcases j with _ | _ | _ | _ | _ | _ | _ | _ | _ | _ | _ | _ | _ | _ | _ | _ | _ | _ | _ | _ | _ | j <;> first | rfl | omega)) hc1 hc2 dX2_talk_134 (fun q_99 V_100 H g1 g2 hV hS => ?_)
      replace h := h q_99 V_100 g1 g2
      have hk : kc + 1 ≤ MC ∧ ks + 6 ≤ MS := ⟨hc1, hc2⟩
      refine lv_dup hx hb dX2_talk_137 rfl ?_
      refine lv_aload_n hx hb dX2_talk_138 rfl (lv_at hl 0 rfl) ?_
      obtain ⟨p_101, e_102, h⟩ := bO_e h
      refine vg_r S hK hV fX2_93 e_102 dX2_talk_139 ?_
      refine lv_iload_n hx hb dX2_talk_142 rfl (lv_at hl 2 rfl) ?_
      refine lv_iload hx hb dX2_talk_143 (lv_at hl 3 rfl) ?_
      refine lv_iload hx hb dX2_talk_145 (lv_at hl 4 rfl) ?_
      refine lv_iload hx hb dX2_talk_147 (lv_at hl 5 rfl) ?_
      obtain ⟨n_103, z_n_103, h9⟩ := bO_e h
      clear h; subst z_n_103; have h := h9; clear h9
      refine vk_v (vr_I (As := [.ref n_103, .int x2, .int x4, .int x5, .int x6]) (rest := [.ref q_99, va_rf p_84]) S hK hG hA hV hS (mvX9_init l q_99 n_103 x2 x4 x5 x6 V_100 _ h) (cwI 5 S.2.2.2.2 (lw_meth q780) rfl rfl rfl (S.2.2.2.2 _ q162) (S.2.2.2.2 _ q778) (S.2.2.2.2 _ q779) rfl cdX9_init ⟨Nat.le_of_ble_eq_true rfl, Nat.le_of_ble_eq_true rfl⟩) rfl hl.1 (by cases p_84 <;> exact Nat.le_of_ble_eq_true rfl) dX2_talk_149 ⟨hk.1, hk.2⟩) hS (fun V_105 H locs h hV hS => ?_)
      refine lv_goto (tgt := 173) hx hb dX2_talk_152 (by decide) ?_
      exact C173 _ _ _ _ _ _ _ _ hV hS hk (lv_sub hl [0, 1] rfl) h
  have C96 : ∀ (x2 : Int32) (x4 : Int32) (x5 : Int32) (V : VS) (kc ks : Nat) (H : Heap) (locs : List Loc) (ls : Array Slot), HV D A V H → va_S A s.heap H locs → (kc ≤ MC ∧ ks ≤ MS) → lv_has ls 7 [(0, .ref a0), (1, .int a1), (2, .int x2), (4, .int x4), (5, .int x5)] → vX2_talk_c96 cA a0 a1 MC MS Post PX x2 x4 x5 V kc ks → W p l e (rX2_talk MC MS) s m args below meth c H locs kc ks (vx_MQ below (va_Qv Post (vB D A) A) (vX D A PX) args s MC MS A) (F0 m 96 ls []) := by
    intro x2 x4 x5 V kc ks H locs ls hV hS hk hl h
    unfold vX2_talk_c96 at h
    refine lv_aload_n hx hb dX2_talk_96 rfl (lv_at hl 0 rfl) ?_
    refine lv_iconst hx hb dX2_talk_97 kc_0 ?_
    refine lv_aload_n hx hb dX2_talk_98 rfl (lv_at hl 0 rfl) ?_
    obtain ⟨p_60, e_61, h⟩ := bO_e h
    refine vg_r S hK hV fX2_93 e_61 dX2_talk_99 ?_
    obtain ⟨n_62, z_n_62, h9⟩ := bO_e h
    clear h; subst z_n_62; have h := h9; clear h9
    obtain ⟨p_63, e_64, h⟩ := bO_e h
    refine vg_r S hK hV fX2_100 e_64 dX2_talk_102 ?_
    refine lv_iload hx hb dX2_talk_105 (lv_at hl 4 rfl) ?_
    obtain ⟨n_65, z_n_65, h9⟩ := bO_e h
    clear h; subst z_n_65; have h := h9; clear h9
    obtain ⟨o_68, e_69, h⟩ := bO_e h
    refine vk_q (vr_V (As := [.int x5]) (rest := [.int (0 : Int32), .ref a0]) S hK hG hA hV hS e_69 rfl (mvJ2_get l n_65 x5 V _ h) (cwV 1 S.2.2.2.2 (lw_V q770 q608 q609 q144 q610) rfl rfl rfl cdJ2_get ⟨Nat.le_of_ble_eq_true rfl, Nat.le_of_ble_eq_true rfl⟩) rfl hl.1 (Nat.le_of_ble_eq_true rfl) dX2_talk_107 ⟨hk.1, hk.2⟩) hS (fun p_66 V_67 H locs h hV hS => ?_)
    obtain ⟨n_70, z_n_70, h9⟩ := bO_e h
    clear h; subst z_n_70; have h := h9; clear h9
    obtain ⟨o_71, e_72, h⟩ := bO_e h
    refine v_cast S hK hV e_72 ct_SaidSo_Thing q633 dX2_talk_110 ?_
    obtain ⟨g_73, e_74, h⟩ := bO_e h
    refine vg_i S hK hV fX2_200 e_74 dX2_talk_113 ?_
    refine lv_iconst hx hb dX2_talk_116 kc_1 ?_
    refine lv_isub hx hb dX2_talk_117 ?_
    obtain ⟨mc_77, ms_78, hc1, hc2, h⟩ := h
    obtain ⟨o_79, e_80, h⟩ := bO_e h
    refine vy_i (vr_VX (As := [.int (0 : Int32), .int (g_73 - (1 : Int32))]) (rest := []) S hK hG hA hV hS e_80 rfl (mvX2_number l a0 (0 : Int32) (g_73 - (1 : Int32)) V_67 mc_77 ms_78 _ _ h) (cwV 2 S.2.2.2.2 (lw_V q625 q627 qs12 q140 q628) rfl rfl rfl cdX2_number ⟨Nat.le_of_ble_eq_true rfl, Nat.le_of_ble_eq_true rfl⟩) rfl hl.1 (Nat.le_of_ble_eq_true rfl) dX2_talk_118 ⟨hc1, hc2⟩) hS (vo_X htab hlocks hc1 hc2) (fun r_75 V_76 H locs h hV hS => ?_)
    have hk : kc + mc_77 ≤ MC ∧ ks + ms_78 ≤ MS := ⟨hc1, hc2⟩
    refine lv_istore (lv' := [(6, .int r_75), (0, .ref a0), (1, .int a1), (2, .int x2), (4, .int x4), (5, .int x5)]) hx hb dX2_talk_121 hl (by decide) rfl (fun ls hl => ?_)
    exact C123 _ _ _ _ _ _ _ _ _ _ hV hS hk (lv_sub hl [1, 2, 3, 4, 5, 0] rfl) h
  unfold vX2_talk at h
  refine lv_aload_n hx hb dX2_talk_0 rfl (lv_at hl 0 rfl) ?_
  refine lv_iconst hx hb dX2_talk_1 kc_0 ?_
  obtain ⟨mc_3, ms_4, hc1, hc2, h⟩ := h
  obtain ⟨o_5, e_6, h⟩ := bO_e h
  refine vy_i (vr_VX (As := [.int (0 : Int32)]) (rest := []) S hK hG hA hV hS e_6 rfl (mvX2_told l a0 (0 : Int32) V mc_3 ms_4 _ _ h) (cwV 1 S.2.2.2.2 (lw_V q766 q768 qs19 q140 q769) rfl rfl rfl cdX2_told ⟨Nat.le_of_ble_eq_true rfl, Nat.le_of_ble_eq_true rfl⟩) rfl hl.1 (Nat.le_of_ble_eq_true rfl) dX2_talk_2 ⟨hc1, hc2⟩) hS (vo_X htab hlocks hc1 hc2) (fun r_1 V_2 H locs h hV hS => ?_)
  have hk : 0 + mc_3 ≤ MC ∧ 0 + ms_4 ≤ MS := ⟨hc1, hc2⟩
  refine lv_istore_n (lv' := [(2, .int r_1), (0, .ref a0), (1, .int a1)]) hx hb dX2_talk_5 rfl hl (by decide) rfl (fun ls hl => ?_)
  refine lv_aload_n hx hb dX2_talk_6 rfl (lv_at hl 1 rfl) ?_
  obtain ⟨g_7, e_8, h⟩ := bO_e h
  refine vg_i S hK hV fX2_30 e_8 dX2_talk_7 ?_
  refine lv_istore_n (lv' := [(3, .int g_7), (2, .int r_1), (0, .ref a0), (1, .int a1)]) hx hb dX2_talk_10 rfl hl (by decide) rfl (fun ls hl => ?_)
  refine lv_aload_n hx hb dX2_talk_11 rfl (lv_at hl 2 rfl) ?_
  refine lv_aload_n hx hb dX2_talk_12 rfl (lv_at hl 2 rfl) ?_
  obtain ⟨p_9, e_10, h⟩ := bO_e h
  refine vg_r S hK hV fX2_93 e_10 dX2_talk_13 ?_
  obtain ⟨n_11, z_n_11, h9⟩ := bO_e h
  clear h; subst z_n_11; have h := h9; clear h9
  obtain ⟨p_12, e_13, h⟩ := bO_e h
  refine vg_r S hK hV fX2_108 e_13 dX2_talk_16 ?_
  refine lv_iload_n hx hb dX2_talk_19 rfl (lv_at hl 1 rfl) ?_
  obtain ⟨n_14, z_n_14, h9⟩ := bO_e h
  clear h; subst z_n_14; have h := h9; clear h9
  obtain ⟨o_17, e_18, h⟩ := bO_e h
  refine vk_q (vr_V (As := [.int r_1]) (rest := [.ref a0]) S hK hG hA hV hS e_18 rfl (mvJ2_get l n_14 r_1 V_2 _ h) (cwV 1 S.2.2.2.2 (lw_V q770 q608 q609 q144 q610) rfl rfl rfl cdJ2_get ⟨Nat.le_of_ble_eq_true rfl, Nat.le_of_ble_eq_true rfl⟩) rfl hl.1 (Nat.le_of_ble_eq_true rfl) dX2_talk_20 ⟨hk.1, hk.2⟩) hS (fun p_15 V_16 H locs h hV hS => ?_)
  obtain ⟨n_19, z_n_19, h9⟩ := bO_e h
  clear h; subst z_n_19; have h := h9; clear h9
  obtain ⟨o_20, e_21, h⟩ := bO_e h
  refine v_cast S hK hV e_21 ct_SaidSo_Teller q730 dX2_talk_23 ?_
  obtain ⟨g_22, e_23, h⟩ := bO_e h
  refine vg_i S hK hV fX2_194 e_23 dX2_talk_26 ?_
  refine lv_aload_n hx hb dX2_talk_29 rfl (lv_at hl 2 rfl) ?_
  obtain ⟨p_24, e_25, h⟩ := bO_e h
  refine vg_r S hK hV fX2_93 e_25 dX2_talk_30 ?_
  obtain ⟨n_26, z_n_26, h9⟩ := bO_e h
  clear h; subst z_n_26; have h := h9; clear h9
  obtain ⟨p_27, e_28, h⟩ := bO_e h
  refine vg_r S hK hV fX2_108 e_28 dX2_talk_33 ?_
  refine lv_iload_n hx hb dX2_talk_36 rfl (lv_at hl 1 rfl) ?_
  obtain ⟨n_29, z_n_29, h9⟩ := bO_e h
  clear h; subst z_n_29; have h := h9; clear h9
  obtain ⟨o_32, e_33, h⟩ := bO_e h
  refine vk_q (vr_V (As := [.int r_1]) (rest := [.int g_22, .ref a0]) S hK hG hA hV hS e_33 rfl (mvJ2_get l n_29 r_1 V_16 _ h) (cwV 1 S.2.2.2.2 (lw_V q770 q608 q609 q144 q610) rfl rfl rfl cdJ2_get ⟨Nat.le_of_ble_eq_true rfl, Nat.le_of_ble_eq_true rfl⟩) rfl hl.1 (Nat.le_of_ble_eq_true rfl) dX2_talk_37 ⟨hk.1, hk.2⟩) hS (fun p_30 V_31 H locs h hV hS => ?_)
  obtain ⟨n_34, z_n_34, h9⟩ := bO_e h
  clear h; subst z_n_34; have h := h9; clear h9
  obtain ⟨o_35, e_36, h⟩ := bO_e h
  refine v_cast S hK hV e_36 ct_SaidSo_Teller q730 dX2_talk_40 ?_
  obtain ⟨g_37, e_38, h⟩ := bO_e h
  refine vg_i S hK hV fX2_181 e_38 dX2_talk_43 ?_
  obtain ⟨mc_41, ms_42, hc1, hc2, h⟩ := h
  obtain ⟨o_43, e_44, h⟩ := bO_e h
  refine vy_i (vr_VX (As := [.int g_22, .int g_37]) (rest := []) S hK hG hA hV hS e_44 rfl (mvX2_number l a0 g_22 g_37 V_31 mc_41 ms_42 _ _ h) (cwV 2 S.2.2.2.2 (lw_V q625 q627 qs12 q140 q628) rfl rfl rfl cdX2_number ⟨Nat.le_of_ble_eq_true rfl, Nat.le_of_ble_eq_true rfl⟩) rfl hl.1 (Nat.le_of_ble_eq_true rfl) dX2_talk_46 ⟨hc1, hc2⟩) hS (vo_X htab hlocks hc1 hc2) (fun r_39 V_40 H locs h hV hS => ?_)
  have hk : 0 + mc_3 + mc_41 ≤ MC ∧ 0 + ms_4 + ms_42 ≤ MS := ⟨hc1, hc2⟩
  refine lv_istore (lv' := [(4, .int r_39), (3, .int g_7), (2, .int r_1), (0, .ref a0), (1, .int a1)]) hx hb dX2_talk_49 hl (by decide) rfl (fun ls hl => ?_)
  refine lv_iload hx hb dX2_talk_51 (lv_at hl 0 rfl) ?_
  refine lv_aload_n hx hb dX2_talk_53 rfl (lv_at hl 3 rfl) ?_
  obtain ⟨p_45, e_46, h⟩ := bO_e h
  refine vg_r S hK hV fX2_93 e_46 dX2_talk_54 ?_
  refine lv_iload_n hx hb dX2_talk_57 rfl (lv_at hl 2 rfl) ?_
  obtain ⟨n_47, z_n_47, h9⟩ := bO_e h
  clear h; subst z_n_47; have h := h9; clear h9
  obtain ⟨o_50, e_51, h⟩ := bO_e h
  refine vk_i (vr_V (As := [.int r_1]) (rest := [.int r_39]) S hK hG hA hV hS e_51 rfl (mvX3_latest l n_47 r_1 V_40 _ h) (cwV 1 S.2.2.2.2 (lw_V q771 q772 q773 q141 q774) rfl rfl rfl cdX3_latest ⟨Nat.le_of_ble_eq_true rfl, Nat.le_of_ble_eq_true rfl⟩) rfl hl.1 (Nat.le_of_ble_eq_true rfl) dX2_talk_58 ⟨hk.1, hk.2⟩) hS (fun r_48 V_49 H locs h hV hS => ?_)
  refine lv_icmp_ge (tgt := 74) hx hb dX2_talk_61 (by decide) (fun c_52 => ?_) (fun c_52 => ?_)
  · replace h := h.1 c_52
    refine lv_aload_n hx hb dX2_talk_74 rfl (lv_at hl 3 rfl) ?_
    refine lv_iconst hx hb dX2_talk_75 kc_1 ?_
    obtain ⟨mc_55, ms_56, hc1, hc2, h⟩ := h
    obtain ⟨o_57, e_58, h⟩ := bO_e h
    refine vy_i (vr_VX (As := [.int (1 : Int32)]) (rest := []) S hK hG hA hV hS e_58 rfl (mvX2_told l a0 (1 : Int32) V_49 mc_55 ms_56 _ _ h) (cwV 1 S.2.2.2.2 (lw_V q766 q768 qs19 q140 q769) rfl rfl rfl cdX2_told ⟨Nat.le_of_ble_eq_true rfl, Nat.le_of_ble_eq_true rfl⟩) rfl hl.1 (Nat.le_of_ble_eq_true rfl) dX2_talk_76 ⟨hc1, hc2⟩) hS (vo_X htab hlocks hc1 hc2) (fun r_53 V_54 H locs h hV hS => ?_)
    have hk : 0 + mc_3 + mc_41 + mc_55 ≤ MC ∧ 0 + ms_4 + ms_42 + ms_56 ≤ MS := ⟨hc1, hc2⟩
    refine lv_istore (lv' := [(5, .int r_53), (4, .int r_39), (3, .int g_7), (2, .int r_1), (0, .ref a0), (1, .int a1)]) hx hb dX2_talk_79 hl (by decide) rfl (fun ls hl => ?_)
    refine lv_iconst hx hb dX2_talk_81 kc_m1 ?_
    refine lv_istore (lv' := [(6, .int (-1 : Int32)), (5, .int r_53), (4, .int r_39), (3, .int g_7), (2, .int r_1), (0, .ref a0), (1, .int a1)]) hx hb dX2_talk_82 hl (by decide) rfl (fun ls hl => ?_)
    refine lv_iload_n hx hb dX2_talk_84 rfl (lv_at hl 6 rfl) ?_
    refine lv_if_ne (tgt := 96) hx hb dX2_talk_85 (by decide) (fun c_59 => ?_) (fun c_59 => ?_)
    · replace h := h.2 c_59
      exact C96 _ _ _ _ _ _ _ _ _ hV hS hk (lv_sub hl [5, 6, 4, 2, 1] rfl) h
    · replace h := h.1 c_59
      refine lv_aload_n hx hb dX2_talk_88 rfl (lv_at hl 5 rfl) ?_
      obtain ⟨g_106, e_107, h⟩ := bO_e h
      refine vg_i S hK hV fX2_33 e_107 dX2_talk_89 ?_
      refine lv_iconst hx hb dX2_talk_92 kc_2 ?_
      refine lv_icmp_ne (tgt := 123) hx hb dX2_talk_93 (by decide) (fun c_108 => ?_) (fun c_108 => ?_)
      · replace h := h.2 c_108
        exact C123 _ _ _ _ _ _ _ _ _ _ hV hS hk (lv_sub hl [5, 6, 4, 2, 1, 0] rfl) h
      · replace h := h.1 c_108
        exact C96 _ _ _ _ _ _ _ _ _ hV hS hk (lv_sub hl [5, 6, 4, 2, 1] rfl) h
  · replace h := h.2 c_52
    obtain ⟨hc1, hc2, h⟩ := h
    refine vw_new (ci := 4) (fs := [.null, .null, .null, .null, .null, .int 0, .int 0, .int 0]) (C := RX5) (T := TX5) (N := 8) S hK hV hS hA in_X5 tyX5 tyX5_ok q519 q520 q154 rfl (fun j hj => by first | (rcases j with _ | _ | _ | _ | _ | _ | _ | _ | _ | _ | _ | _ | _ | _ | _ | _ | _ | _ | _ | _ | _ | j <;> first | rfl | omega)) hc1 hc2 dX2_talk_64 (fun q_109 V_110 H g1 g2 hV hS => ?_)
    replace h := h q_109 V_110 g1 g2
    have hk : 0 + mc_3 + mc_41 + 1 ≤ MC ∧ 0 + ms_4 + ms_42 + 8 ≤ MS := ⟨hc1, hc2⟩
    refine lv_dup hx hb dX2_talk_67 rfl ?_
    refine lv_iconst hx hb dX2_talk_68 kc_5 ?_
    refine lv_iload_n hx hb dX2_talk_69 rfl (lv_at hl 1 rfl) ?_
    refine vk_v (vr_I (As := [.int (5 : Int32), .int g_7]) (rest := [.ref q_109]) S hK hG hA hV hS (mvX5_init l q_109 (5 : Int32) g_7 V_110 _ h) (cwI 2 S.2.2.2.2 (lw_meth q562) rfl rfl rfl (S.2.2.2.2 _ q154) (S.2.2.2.2 _ q560) (S.2.2.2.2 _ q561) rfl cdX5_init ⟨Nat.le_of_ble_eq_true rfl, Nat.le_of_ble_eq_true rfl⟩) rfl hl.1 (Nat.le_of_ble_eq_true rfl) dX2_talk_70 ⟨hk.1, hk.2⟩) hS (fun V_112 H locs h hV hS => ?_)
    obtain ⟨o_113, e_114, h⟩ := bO_e h
    exact vt_F hx hb htab hlocks hK hV hS e_114 h hk.1 hk.2 dX2_talk_73
def vX2_page (cA : Nat → ClassId) (a0 : Nat) (V : VS) (MC MS : Nat) (Post : VS → Prop) (PX : Nat → Nat → VS → Prop) : Prop := ∃ mc_3 ms_4 : Nat, 0 + mc_3 ≤ MC ∧ 0 + ms_4 ≤ MS ∧ bO (vO V [2] a0) (fun o_5 => vX2_told cA a0 (0 : Int32) V mc_3 ms_4 (fun r_1 V_2 => ∃ mc_9 ms_10 : Nat, 0 + mc_3 + mc_9 ≤ MC ∧ 0 + ms_4 + ms_10 ≤ MS ∧ bO (vO V_2 [2] a0) (fun o_11 => vX2_told cA a0 (1 : Int32) V_2 mc_9 ms_10 (fun r_7 V_8 => bO (gR V_8 [2] a0 6) (fun p_13 => bO p_13 (fun n_15 => bO (gR V_8 [3] n_15 3) (fun p_16 => (0 + mc_3 + mc_9 + 1 ≤ MC ∧ 0 + ms_4 + ms_10 + 3 ≤ MS ∧ ∀ (q_18 : Nat) (V_19 : VS), V_8 q_18 = none → V_19 = vU V_8 q_18 (.inr (9, [.int 0, .int 0, .int 0])) → bO (gR V_19 [2] a0 6) (fun p_20 => bO p_20 (fun n_22 => bO (gR V_19 [3] n_22 0) (fun p_23 => bO p_23 (fun n_25 => bO (vO V_19 [14] n_25) (fun o_28 => vJ2_get cA n_25 r_7 V_19 (fun p_26 V_27 => bO p_26 (fun n_30 => bO (vO V_27 [5] n_30) (fun o_31 => bO (gI V_27 [5] n_30 1) (fun g_33 => ∃ mc_37 ms_38 : Nat, 0 + mc_3 + mc_9 + 1 + mc_37 ≤ MC ∧ 0 + ms_4 + ms_10 + 3 + ms_38 ≤ MS ∧ bO (vO V_27 [2] a0) (fun o_39 => vX2_number cA a0 (0 : Int32) (g_33 - (1 : Int32)) V_27 mc_37 ms_38 (fun r_35 V_36 => vX11_init cA q_18 r_1 r_7 r_35 V_36 (fun V_42 => bO p_16 (fun n_43 => bO (vO V_42 [14] n_43) (fun o_46 => vJ2_add cA n_43 q_18 V_42 (fun r_44 V_45 => Post V_45))))) PX))))))))))))))) PX)) PX)
abbrev rX2_page (MC MS : Nat) : Room := { frames := 7, cells := MC, slots := MS, locals := 155 }
theorem cdX2_page : yX2_page.cls = RX2 ∧ yX2_page.cls ≠ "java/lang/invoke/MethodHandle" ∧ yX2_page.cls ≠ "java/lang/invoke/VarHandle" ∧ (parseMethodDescriptor yX2_page.desc).map (fun d => d.parameters.length) = some 0 := by decide +kernel
set_option maxHeartbeats 4000000 in
set_option maxRecDepth 100000 in
theorem mvX2_page (l : Launch) {D : va_G} {cA : Nat → ClassId} {A : Nat → Prop} (a0 : Nat) (V : VS) (MC MS : Nat) (Post : VS → Prop) (PX : Nat → Nat → VS → Prop) (h : vX2_page cA a0 V MC MS Post PX) : vx_Met l yX2_page (ws_ yX2_page cX2_page 3 none) (rX2_page MC MS) (vPc [.ref a0] D cA A V) (va_Qv Post (vB D A) A) (vX D A PX) MC MS A := by
  refine vst (own := RX2) (by decide) rfl (Nat.le_of_ble_eq_true rfl) ?_
  intro p e s m args below meth c ls X hret hV hS hl
  obtain ⟨S, hK, hG, hA, hnm, hlocks, htab⟩ := X
  have hx := S.1
  have hb := S.2.1
  have hk : 0 ≤ MC ∧ 0 ≤ MS := ⟨Nat.zero_le _, Nat.zero_le _⟩
  have hl : lv_has ls 3 [(0, .ref a0)] := hl
  unfold vX2_page at h
  refine lv_aload_n hx hb dX2_page_0 rfl (lv_at hl 0 rfl) ?_
  refine lv_iconst hx hb dX2_page_1 kc_0 ?_
  obtain ⟨mc_3, ms_4, hc1, hc2, h⟩ := h
  obtain ⟨o_5, e_6, h⟩ := bO_e h
  refine vy_i (vr_VX (As := [.int (0 : Int32)]) (rest := []) S hK hG hA hV hS e_6 rfl (mvX2_told l a0 (0 : Int32) V mc_3 ms_4 _ _ h) (cwV 1 S.2.2.2.2 (lw_V q766 q768 qs19 q140 q769) rfl rfl rfl cdX2_told ⟨Nat.le_of_ble_eq_true rfl, Nat.le_of_ble_eq_true rfl⟩) rfl hl.1 (Nat.le_of_ble_eq_true rfl) dX2_page_2 ⟨hc1, hc2⟩) hS (vo_X htab hlocks hc1 hc2) (fun r_1 V_2 H locs h hV hS => ?_)
  have hk : 0 + mc_3 ≤ MC ∧ 0 + ms_4 ≤ MS := ⟨hc1, hc2⟩
  refine lv_istore_n (lv' := [(1, .int r_1), (0, .ref a0)]) hx hb dX2_page_5 rfl hl (by decide) rfl (fun ls hl => ?_)
  refine lv_aload_n hx hb dX2_page_6 rfl (lv_at hl 1 rfl) ?_
  refine lv_iconst hx hb dX2_page_7 kc_1 ?_
  obtain ⟨mc_9, ms_10, hc1, hc2, h⟩ := h
  obtain ⟨o_11, e_12, h⟩ := bO_e h
  refine vy_i (vr_VX (As := [.int (1 : Int32)]) (rest := []) S hK hG hA hV hS e_12 rfl (mvX2_told l a0 (1 : Int32) V_2 mc_9 ms_10 _ _ h) (cwV 1 S.2.2.2.2 (lw_V q766 q768 qs19 q140 q769) rfl rfl rfl cdX2_told ⟨Nat.le_of_ble_eq_true rfl, Nat.le_of_ble_eq_true rfl⟩) rfl hl.1 (Nat.le_of_ble_eq_true rfl) dX2_page_8 ⟨hc1, hc2⟩) hS (vo_X htab hlocks hc1 hc2) (fun r_7 V_8 H locs h hV hS => ?_)
  have hk : 0 + mc_3 + mc_9 ≤ MC ∧ 0 + ms_4 + ms_10 ≤ MS := ⟨hc1, hc2⟩
  refine lv_istore_n (lv' := [(2, .int r_7), (1, .int r_1), (0, .ref a0)]) hx hb dX2_page_11 rfl hl (by decide) rfl (fun ls hl => ?_)
  refine lv_aload_n hx hb dX2_page_12 rfl (lv_at hl 2 rfl) ?_
  obtain ⟨p_13, e_14, h⟩ := bO_e h
  refine vg_r S hK hV fX2_93 e_14 dX2_page_13 ?_
  obtain ⟨n_15, z_n_15, h9⟩ := bO_e h
  clear h; subst z_n_15; have h := h9; clear h9
  obtain ⟨p_16, e_17, h⟩ := bO_e h
  refine vg_r S hK hV fX2_114 e_17 dX2_page_16 ?_
  obtain ⟨hc1, hc2, h⟩ := h
  refine vw_new (ci := 9) (fs := [.int 0, .int 0, .int 0]) (C := RX11) (T := TX11) (N := 3) S hK hV hS hA in_X11 tyX11 tyX11_ok q846 q847 q164 rfl (fun j hj => by first | (rcases j with _ | _ | _ | _ | _ | _ | _ | _ | _ | _ | _ | _ | _ | _ | _ | _ | _ | _ | _ | _ | _ | j <;> first | rfl | omega)) hc1 hc2 dX2_page_19 (fun q_18 V_19 H g1 g2 hV hS => ?_)
  replace h := h q_18 V_19 g1 g2
  have hk : 0 + mc_3 + mc_9 + 1 ≤ MC ∧ 0 + ms_4 + ms_10 + 3 ≤ MS := ⟨hc1, hc2⟩
  refine lv_dup hx hb dX2_page_22 rfl ?_
  refine lv_iload_n hx hb dX2_page_23 rfl (lv_at hl 1 rfl) ?_
  refine lv_iload_n hx hb dX2_page_24 rfl (lv_at hl 0 rfl) ?_
  refine lv_aload_n hx hb dX2_page_25 rfl (lv_at hl 2 rfl) ?_
  refine lv_iconst hx hb dX2_page_26 kc_0 ?_
  refine lv_aload_n hx hb dX2_page_27 rfl (lv_at hl 2 rfl) ?_
  obtain ⟨p_20, e_21, h⟩ := bO_e h
  refine vg_r S hK hV fX2_93 e_21 dX2_page_28 ?_
  obtain ⟨n_22, z_n_22, h9⟩ := bO_e h
  clear h; subst z_n_22; have h := h9; clear h9
  obtain ⟨p_23, e_24, h⟩ := bO_e h
  refine vg_r S hK hV fX2_100 e_24 dX2_page_31 ?_
  refine lv_iload_n hx hb dX2_page_34 rfl (lv_at hl 0 rfl) ?_
  obtain ⟨n_25, z_n_25, h9⟩ := bO_e h
  clear h; subst z_n_25; have h := h9; clear h9
  obtain ⟨o_28, e_29, h⟩ := bO_e h
  refine vk_q (vr_V (As := [.int r_7]) (rest := [.int (0 : Int32), .ref a0, .int r_7, .int r_1, .ref q_18, .ref q_18, va_rf p_16]) S hK hG hA hV hS e_29 rfl (mvJ2_get l n_25 r_7 V_19 _ h) (cwV 1 S.2.2.2.2 (lw_V q770 q608 q609 q144 q610) rfl rfl rfl cdJ2_get ⟨Nat.le_of_ble_eq_true rfl, Nat.le_of_ble_eq_true rfl⟩) rfl hl.1 (by cases p_16 <;> exact Nat.le_of_ble_eq_true rfl) dX2_page_35 ⟨hk.1, hk.2⟩) hS (fun p_26 V_27 H locs h hV hS => ?_)
  obtain ⟨n_30, z_n_30, h9⟩ := bO_e h
  clear h; subst z_n_30; have h := h9; clear h9
  obtain ⟨o_31, e_32, h⟩ := bO_e h
  refine v_cast S hK hV e_32 ct_SaidSo_Thing q633 dX2_page_38 ?_
  obtain ⟨g_33, e_34, h⟩ := bO_e h
  refine vg_i S hK hV fX2_200 e_34 dX2_page_41 ?_
  refine lv_iconst hx hb dX2_page_44 kc_1 ?_
  refine lv_isub hx hb dX2_page_45 ?_
  obtain ⟨mc_37, ms_38, hc1, hc2, h⟩ := h
  obtain ⟨o_39, e_40, h⟩ := bO_e h
  refine vy_i (vr_VX (As := [.int (0 : Int32), .int (g_33 - (1 : Int32))]) (rest := [.int r_7, .int r_1, .ref q_18, .ref q_18, va_rf p_16]) S hK hG hA hV hS e_40 rfl (mvX2_number l a0 (0 : Int32) (g_33 - (1 : Int32)) V_27 mc_37 ms_38 _ _ h) (cwV 2 S.2.2.2.2 (lw_V q625 q627 qs12 q140 q628) rfl rfl rfl cdX2_number ⟨Nat.le_of_ble_eq_true rfl, Nat.le_of_ble_eq_true rfl⟩) rfl hl.1 (by cases p_16 <;> exact Nat.le_of_ble_eq_true rfl) dX2_page_46 ⟨hc1, hc2⟩) hS (vo_X htab hlocks hc1 hc2) (fun r_35 V_36 H locs h hV hS => ?_)
  have hk : 0 + mc_3 + mc_9 + 1 + mc_37 ≤ MC ∧ 0 + ms_4 + ms_10 + 3 + ms_38 ≤ MS := ⟨hc1, hc2⟩
  refine vk_v (vr_I (As := [.int r_1, .int r_7, .int r_35]) (rest := [.ref q_18, va_rf p_16]) S hK hG hA hV hS (mvX11_init l q_18 r_1 r_7 r_35 V_36 _ h) (cwI 3 S.2.2.2.2 (lw_meth q850) rfl rfl rfl (S.2.2.2.2 _ q164) (S.2.2.2.2 _ q848) (S.2.2.2.2 _ q849) rfl cdX11_init ⟨Nat.le_of_ble_eq_true rfl, Nat.le_of_ble_eq_true rfl⟩) rfl hl.1 (by cases p_16 <;> exact Nat.le_of_ble_eq_true rfl) dX2_page_49 ⟨hk.1, hk.2⟩) hS (fun V_42 H locs h hV hS => ?_)
  obtain ⟨n_43, z_n_43, h9⟩ := bO_e h
  clear h; subst z_n_43; have h := h9; clear h9
  obtain ⟨o_46, e_47, h⟩ := bO_e h
  refine vk_i (vr_V (As := [.ref q_18]) (rest := []) S hK hG hA hV hS e_47 rfl (mvJ2_add l n_43 q_18 V_42 _ h) (cwV 1 S.2.2.2.2 (lw_V q664 q665 q666 q144 q667) rfl rfl rfl cdJ2_add ⟨Nat.le_of_ble_eq_true rfl, Nat.le_of_ble_eq_true rfl⟩) rfl hl.1 (Nat.le_of_ble_eq_true rfl) dX2_page_52 ⟨hk.1, hk.2⟩) hS (fun r_44 V_45 H locs h hV hS => ?_)
  refine lv_pop hx hb dX2_page_55 rfl ?_
  exact vx_ret (ve_v S hlocks hret hV hS h hk.1 hk.2 dX2_page_56)
def vX2_knot (cA : Nat → ClassId) (a0 : Nat) (V : VS) (MC MS : Nat) (Post : VS → Prop) (PX : Nat → Nat → VS → Prop) : Prop := bO (gR V [2] a0 6) (fun p_1 => bO p_1 (fun n_3 => bO (gI V [3] n_3 6) (fun g_4 => (g_4 = (64 : Int32) → (∃ mc_16 ms_17 : Nat, 0 + mc_16 ≤ MC ∧ 0 + ms_17 ≤ MS ∧ bO (vO V [2] a0) (fun o_18 => vX2_wrong cA a0 (2 : Int32) V mc_16 ms_17 (fun p_14 V_15 => bO p_14 (fun n_20 => bO (vO V_15 [4] n_20) (fun o_21 => PX 0 n_20 V_15)))))) ∧ (¬ (g_4 = (64 : Int32)) → (bO (gR V [2] a0 6) (fun p_7 => bO p_7 (fun n_9 => bO (gI V [3] n_9 6) (fun g_10 => bO (pF V [3] n_9 6 (.int (g_10 + (1 : Int32)))) (fun V_12 => Post V_12)))))))))
abbrev rX2_knot (MC MS : Nat) : Room := { frames := 5, cells := MC, slots := MS, locals := 115 }
theorem cdX2_knot : yX2_knot.cls = RX2 ∧ yX2_knot.cls ≠ "java/lang/invoke/MethodHandle" ∧ yX2_knot.cls ≠ "java/lang/invoke/VarHandle" ∧ (parseMethodDescriptor yX2_knot.desc).map (fun d => d.parameters.length) = some 0 := by decide +kernel
set_option maxHeartbeats 4000000 in
set_option maxRecDepth 100000 in
theorem mvX2_knot (l : Launch) {D : va_G} {cA : Nat → ClassId} {A : Nat → Prop} (a0 : Nat) (V : VS) (MC MS : Nat) (Post : VS → Prop) (PX : Nat → Nat → VS → Prop) (h : vX2_knot cA a0 V MC MS Post PX) : vx_Met l yX2_knot (ws_ yX2_knot cX2_knot 1 none) (rX2_knot MC MS) (vPc [.ref a0] D cA A V) (va_Qv Post (vB D A) A) (vX D A PX) MC MS A := by
  refine vst (own := RX2) (by decide) rfl (Nat.le_of_ble_eq_true rfl) ?_
  intro p e s m args below meth c ls X hret hV hS hl
  obtain ⟨S, hK, hG, hA, hnm, hlocks, htab⟩ := X
  have hx := S.1
  have hb := S.2.1
  have hk : 0 ≤ MC ∧ 0 ≤ MS := ⟨Nat.zero_le _, Nat.zero_le _⟩
  have hl : lv_has ls 1 [(0, .ref a0)] := hl
  unfold vX2_knot at h
  refine lv_aload_n hx hb dX2_knot_0 rfl (lv_at hl 0 rfl) ?_
  obtain ⟨p_1, e_2, h⟩ := bO_e h
  refine vg_r S hK hV fX2_93 e_2 dX2_knot_1 ?_
  obtain ⟨n_3, z_n_3, h9⟩ := bO_e h
  clear h; subst z_n_3; have h := h9; clear h9
  obtain ⟨g_4, e_5, h⟩ := bO_e h
  refine vg_i S hK hV fX2_214 e_5 dX2_knot_4 ?_
  refine lv_bipush hx hb dX2_knot_7 kb_64 ?_
  refine lv_icmp_ne (tgt := 18) hx hb dX2_knot_9 (by decide) (fun c_6 => ?_) (fun c_6 => ?_)
  · replace h := h.2 c_6
    refine lv_aload_n hx hb dX2_knot_18 rfl (lv_at hl 0 rfl) ?_
    obtain ⟨p_7, e_8, h⟩ := bO_e h
    refine vg_r S hK hV fX2_93 e_8 dX2_knot_19 ?_
    refine lv_dup hx hb dX2_knot_22 (by cases p_7 <;> rfl) ?_
    obtain ⟨n_9, z_n_9, h9⟩ := bO_e h
    clear h; subst z_n_9; have h := h9; clear h9
    obtain ⟨g_10, e_11, h⟩ := bO_e h
    refine vg_i S hK hV fX2_214 e_11 dX2_knot_23 ?_
    refine lv_iconst hx hb dX2_knot_26 kc_1 ?_
    refine lv_iadd hx hb dX2_knot_27 ?_
    obtain ⟨V_12, e_13, h⟩ := bO_e h
    refine vp_v (v := .int (g_10 + (1 : Int32))) S hK hV hS fX2_214 (Or.inl rfl) rfl rfl e_13 dX2_knot_28 (fun H locs hV hS => ?_)
    exact vx_ret (ve_v S hlocks hret hV hS h hk.1 hk.2 dX2_knot_31)
  · replace h := h.1 c_6
    refine lv_aload_n hx hb dX2_knot_12 rfl (lv_at hl 0 rfl) ?_
    refine lv_iconst hx hb dX2_knot_13 kc_2 ?_
    obtain ⟨mc_16, ms_17, hc1, hc2, h⟩ := h
    obtain ⟨o_18, e_19, h⟩ := bO_e h
    refine vk_q (vr_V (As := [.int (2 : Int32)]) (rest := []) S hK hG hA hV hS e_19 rfl (mvX2_wrong l a0 (2 : Int32) V mc_16 ms_17 _ h) (cwV 1 S.2.2.2.2 (lw_V q515 q517 qs8 q140 q518) rfl rfl rfl cdX2_wrong ⟨Nat.le_of_ble_eq_true rfl, Nat.le_of_ble_eq_true rfl⟩) rfl hl.1 (Nat.le_of_ble_eq_true rfl) dX2_knot_14 ⟨hc1, hc2⟩) hS (fun p_14 V_15 H locs h hV hS => ?_)
    have hk : 0 + mc_16 ≤ MC ∧ 0 + ms_17 ≤ MS := ⟨hc1, hc2⟩
    obtain ⟨n_20, z_n_20, h9⟩ := bO_e h
    clear h; subst z_n_20; have h := h9; clear h9
    obtain ⟨o_21, e_22, h⟩ := bO_e h
    exact vt_F hx hb htab hlocks hK hV hS e_22 h hk.1 hk.2 dX2_knot_17
def vX2_sign2 (cA : Nat → ClassId) (a0 : Nat) (V : VS) (MC MS : Nat) (Post : Int32 → VS → Prop) (PX : Nat → Nat → VS → Prop) : Prop := bO (gI V [2] a0 4) (fun g_1 => ∃ mc_5 ms_6 : Nat, 0 + mc_5 ≤ MC ∧ 0 + ms_6 ≤ MS ∧ bO (vO V [2] a0) (fun o_7 => vX2_knot cA a0 V mc_5 ms_6 (fun V_4 => bO (vO V_4 [2] a0) (fun o_11 => vX2_next cA a0 V_4 (fun V_10 => Post g_1 V_10))) PX))
abbrev rX2_sign2 (MC MS : Nat) : Room := { frames := 6, cells := MC, slots := MS, locals := 135 }
theorem cdX2_sign2 : yX2_sign2.cls = RX2 ∧ yX2_sign2.cls ≠ "java/lang/invoke/MethodHandle" ∧ yX2_sign2.cls ≠ "java/lang/invoke/VarHandle" ∧ (parseMethodDescriptor yX2_sign2.desc).map (fun d => d.parameters.length) = some 0 := by decide +kernel
set_option maxHeartbeats 4000000 in
set_option maxRecDepth 100000 in
theorem mvX2_sign2 (l : Launch) {D : va_G} {cA : Nat → ClassId} {A : Nat → Prop} (a0 : Nat) (V : VS) (MC MS : Nat) (Post : Int32 → VS → Prop) (PX : Nat → Nat → VS → Prop) (h : vX2_sign2 cA a0 V MC MS Post PX) : vx_Met l yX2_sign2 (ws_ yX2_sign2 cX2_sign2 2 (some (.int))) (rX2_sign2 MC MS) (vPc [.ref a0] D cA A V) (va_Qi Post (vB D A) A) (vX D A PX) MC MS A := by
  refine vst (own := RX2) (by decide) rfl (Nat.le_of_ble_eq_true rfl) ?_
  intro p e s m args below meth c ls X hret hV hS hl
  obtain ⟨S, hK, hG, hA, hnm, hlocks, htab⟩ := X
  have hx := S.1
  have hb := S.2.1
  have hk : 0 ≤ MC ∧ 0 ≤ MS := ⟨Nat.zero_le _, Nat.zero_le _⟩
  have hl : lv_has ls 2 [(0, .ref a0)] := hl
  unfold vX2_sign2 at h
  refine lv_aload_n hx hb dX2_sign2_0 rfl (lv_at hl 0 rfl) ?_
  obtain ⟨g_1, e_2, h⟩ := bO_e h
  refine vg_i S hK hV fX2_43 e_2 dX2_sign2_1 ?_
  refine lv_istore_n (lv' := [(1, .int g_1), (0, .ref a0)]) hx hb dX2_sign2_4 rfl hl (by decide) rfl (fun ls hl => ?_)
  refine lv_aload_n hx hb dX2_sign2_5 rfl (lv_at hl 1 rfl) ?_
  obtain ⟨mc_5, ms_6, hc1, hc2, h⟩ := h
  obtain ⟨o_7, e_8, h⟩ := bO_e h
  refine vy_v (vr_VX (As := []) (rest := []) S hK hG hA hV hS e_8 rfl (mvX2_knot l a0 V mc_5 ms_6 _ _ h) (cwV 0 S.2.2.2.2 (lw_V q897 q899 qs29 q140 q900) rfl rfl rfl cdX2_knot ⟨Nat.le_of_ble_eq_true rfl, Nat.le_of_ble_eq_true rfl⟩) rfl hl.1 (Nat.le_of_ble_eq_true rfl) dX2_sign2_6 ⟨hc1, hc2⟩) hS (vo_X htab hlocks hc1 hc2) (fun V_4 H locs h hV hS => ?_)
  have hk : 0 + mc_5 ≤ MC ∧ 0 + ms_6 ≤ MS := ⟨hc1, hc2⟩
  refine lv_aload_n hx hb dX2_sign2_9 rfl (lv_at hl 1 rfl) ?_
  obtain ⟨o_11, e_12, h⟩ := bO_e h
  refine vk_v (vr_V (As := []) (rest := []) S hK hG hA hV hS e_12 rfl (mvX2_next l a0 V_4 _ h) (cwV 0 S.2.2.2.2 (lw_V q376 q378 qs1 q140 q379) rfl rfl rfl cdX2_next ⟨Nat.le_of_ble_eq_true rfl, Nat.le_of_ble_eq_true rfl⟩) rfl hl.1 (Nat.le_of_ble_eq_true rfl) dX2_sign2_10 ⟨hk.1, hk.2⟩) hS (fun V_10 H locs h hV hS => ?_)
  refine lv_iload_n hx hb dX2_sign2_13 rfl (lv_at hl 0 rfl) ?_
  exact vx_ret (ve_i S hlocks hret hV hS h rfl hk.1 hk.2 dX2_sign2_14)
def vX2_isSign (cA : Nat → ClassId) (a0 : Nat) (a1 : Int32) (V : VS) (Post : Int32 → VS → Prop) : Prop := bO (gI V [2] a0 3) (fun g_1 => (g_1 = (3 : Int32) → (bO (gI V [2] a0 4) (fun g_4 => (g_4 = a1 → (Post (1 : Int32) V)) ∧ (¬ (g_4 = a1) → (Post (0 : Int32) V))))) ∧ (¬ (g_1 = (3 : Int32)) → (Post (0 : Int32) V)))
abbrev rX2_isSign : Room := { frames := 0, cells := 0, slots := 0, locals := 0 }
theorem cdX2_isSign : yX2_isSign.cls = RX2 ∧ yX2_isSign.cls ≠ "java/lang/invoke/MethodHandle" ∧ yX2_isSign.cls ≠ "java/lang/invoke/VarHandle" ∧ (parseMethodDescriptor yX2_isSign.desc).map (fun d => d.parameters.length) = some 1 := by decide +kernel
set_option maxHeartbeats 4000000 in
set_option maxRecDepth 100000 in
theorem mvX2_isSign (l : Launch) {D : va_G} {cA : Nat → ClassId} {A : Nat → Prop} (a0 : Nat) (a1 : Int32) (V : VS) (Post : Int32 → VS → Prop) (h : vX2_isSign cA a0 a1 V Post) : Met l yX2_isSign (ws_ yX2_isSign cX2_isSign 2 (some (.boolean))) rX2_isSign (vPc [.ref a0, .int a1] D cA A V) (va_Qi Post (vB D A) A) 0 0 A := by
  refine vstM (own := RX2) (by decide) rfl (Nat.le_of_ble_eq_true rfl) ?_
  intro p e s m args below meth c ls X hret hV hS hl
  obtain ⟨S, hK, hG, hA, hnm, hlocks⟩ := X
  have hx := S.1
  have hb := S.2.1
  have hl : lv_has ls 2 [(0, .ref a0), (1, .int a1)] := hl
  unfold vX2_isSign at h
  refine lv_aload_n hx hb dX2_isSign_0 rfl (lv_at hl 0 rfl) ?_
  obtain ⟨g_1, e_2, h⟩ := bO_e h
  refine vg_i S hK hV fX2_33 e_2 dX2_isSign_1 ?_
  refine lv_iconst hx hb dX2_isSign_4 kc_3 ?_
  refine lv_icmp_ne (tgt := 20) hx hb dX2_isSign_5 (by decide) (fun c_3 => ?_) (fun c_3 => ?_)
  · replace h := h.2 c_3
    refine lv_iconst hx hb dX2_isSign_20 kc_0 ?_
    exact ve_i S hlocks hret hV hS h (vz_nar vz_0) (Nat.le_refl _) (Nat.le_refl _) dX2_isSign_21
  · replace h := h.1 c_3
    refine lv_aload_n hx hb dX2_isSign_8 rfl (lv_at hl 0 rfl) ?_
    obtain ⟨g_4, e_5, h⟩ := bO_e h
    refine vg_i S hK hV fX2_43 e_5 dX2_isSign_9 ?_
    refine lv_iload_n hx hb dX2_isSign_12 rfl (lv_at hl 1 rfl) ?_
    refine lv_icmp_ne (tgt := 20) hx hb dX2_isSign_13 (by decide) (fun c_6 => ?_) (fun c_6 => ?_)
    · replace h := h.2 c_6
      refine lv_iconst hx hb dX2_isSign_20 kc_0 ?_
      exact ve_i S hlocks hret hV hS h (vz_nar vz_0) (Nat.le_refl _) (Nat.le_refl _) dX2_isSign_21
    · replace h := h.1 c_6
      refine lv_iconst hx hb dX2_isSign_16 kc_1 ?_
      refine lv_goto (tgt := 21) hx hb dX2_isSign_17 (by decide) ?_
      exact ve_i S hlocks hret hV hS h (vz_nar vz_1) (Nat.le_refl _) (Nat.le_refl _) dX2_isSign_21
theorem cdX2_or : yX2_or.cls = RX2 ∧ yX2_or.cls ≠ "java/lang/invoke/MethodHandle" ∧ yX2_or.cls ≠ "java/lang/invoke/VarHandle" ∧ (parseMethodDescriptor yX2_or.desc).map (fun d => d.parameters.length) = some 0 := by decide +kernel
theorem cdX2_and : yX2_and.cls = RX2 ∧ yX2_and.cls ≠ "java/lang/invoke/MethodHandle" ∧ yX2_and.cls ≠ "java/lang/invoke/VarHandle" ∧ (parseMethodDescriptor yX2_and.desc).map (fun d => d.parameters.length) = some 0 := by decide +kernel
theorem cdX2_not : yX2_not.cls = RX2 ∧ yX2_not.cls ≠ "java/lang/invoke/MethodHandle" ∧ yX2_not.cls ≠ "java/lang/invoke/VarHandle" ∧ (parseMethodDescriptor yX2_not.desc).map (fun d => d.parameters.length) = some 0 := by decide +kernel
theorem cdX2_compare : yX2_compare.cls = RX2 ∧ yX2_compare.cls ≠ "java/lang/invoke/MethodHandle" ∧ yX2_compare.cls ≠ "java/lang/invoke/VarHandle" ∧ (parseMethodDescriptor yX2_compare.desc).map (fun d => d.parameters.length) = some 0 := by decide +kernel
theorem cdX2_sum : yX2_sum.cls = RX2 ∧ yX2_sum.cls ≠ "java/lang/invoke/MethodHandle" ∧ yX2_sum.cls ≠ "java/lang/invoke/VarHandle" ∧ (parseMethodDescriptor yX2_sum.desc).map (fun d => d.parameters.length) = some 0 := by decide +kernel
theorem cdX2_product : yX2_product.cls = RX2 ∧ yX2_product.cls ≠ "java/lang/invoke/MethodHandle" ∧ yX2_product.cls ≠ "java/lang/invoke/VarHandle" ∧ (parseMethodDescriptor yX2_product.desc).map (fun d => d.parameters.length) = some 0 := by decide +kernel
theorem cdX2_one : yX2_one.cls = RX2 ∧ yX2_one.cls ≠ "java/lang/invoke/MethodHandle" ∧ yX2_one.cls ≠ "java/lang/invoke/VarHandle" ∧ (parseMethodDescriptor yX2_one.desc).map (fun d => d.parameters.length) = some 0 := by decide +kernel
def vX2_or_l5 (cA : Nat → ClassId) (rec : RTG) (a0 : Nat) (MC MS : Nat) (Post : Option Nat → VS → Prop) (PX : Nat → Nat → VS → Prop) : Nat → Option Nat → VS → Nat → Nat → Prop
  | 0, _, _, _, _ => False
  | n + 1, x1, V, kc, ks => bO (vO V [2] a0) (fun o_9 => vX2_isWord cA a0 (14 : Int32) (14 : Int32) V (fun r_7 V_8 => (r_7 = 0 → (Post (x1) V_8)) ∧ (¬ (r_7 = 0) → (∃ mc_14 ms_15 : Nat, kc + mc_14 ≤ MC ∧ ks + ms_15 ≤ MS ∧ bO (vO V_8 [2] a0) (fun o_16 => vX2_sign2 cA a0 V_8 mc_14 ms_15 (fun r_12 V_13 => (kc + mc_14 + 1 ≤ MC ∧ ks + ms_15 + 3 ≤ MS ∧ ∀ (q_18 : Nat) (V_19 : VS), V_13 q_18 = none → V_19 = vU V_13 q_18 (.inr (13, [.null, .int 0, .null])) → ∃ mc_20 ms_21 : Nat, kc + mc_14 + 1 + mc_20 ≤ MC ∧ ks + ms_15 + 3 + ms_21 ≤ MS ∧ bO (vO V_19 [2] a0) (fun o_22 => rec 1 a0 V_19 mc_20 ms_21 (fun p_24 V_25 => bO p_24 (fun n_26 => bO x1 (fun n_27 => vX16_init cA q_18 r_12 n_27 n_26 V_25 (fun V_29 => vX2_or_l5 cA rec a0 MC MS Post PX n (some q_18) V_29 (kc + mc_14 + 1 + mc_20) (ks + ms_15 + 3 + ms_21))))) PX))) PX)))))
def vX2_or (cA : Nat → ClassId) (rec : RTG) (a0 : Nat) (V : VS) (MC MS : Nat) (Post : Option Nat → VS → Prop) (PX : Nat → Nat → VS → Prop) : Prop := ∃ mc_1 ms_2 : Nat, 0 + mc_1 ≤ MC ∧ 0 + ms_2 ≤ MS ∧ bO (vO V [2] a0) (fun o_3 => rec 1 a0 V mc_1 ms_2 (fun p_5 V_6 => ∃ f, vX2_or_l5 cA rec a0 MC MS Post PX f p_5 V_6 (0 + mc_1) (0 + ms_2)) PX)
set_option maxHeartbeats 4000000 in
set_option maxRecDepth 100000 in
theorem mvX2_or (l : Launch) {D : va_G} {cA : Nat → ClassId} {A : Nat → Prop} (N : Nat) (rec : RTG) (R0 : ∀ (a0 : Nat) (V : VS) (MC MS : Nat) (Post : Option Nat → VS → Prop) (PX : Nat → Nat → VS → Prop), rec 0 a0 V MC MS Post PX → vx_Met l yX2_or (ws_ yX2_or cX2_or 3 (some (.object "SaidSo$Part"))) (rG N MC MS) (vPc [.ref a0] D cA A V) (va_Qq Post (vB D A) A) (vX D A PX) MC MS A) (R1 : ∀ (a0 : Nat) (V : VS) (MC MS : Nat) (Post : Option Nat → VS → Prop) (PX : Nat → Nat → VS → Prop), rec 1 a0 V MC MS Post PX → vx_Met l yX2_and (ws_ yX2_and cX2_and 3 (some (.object "SaidSo$Part"))) (rG N MC MS) (vPc [.ref a0] D cA A V) (va_Qq Post (vB D A) A) (vX D A PX) MC MS A) (R2 : ∀ (a0 : Nat) (V : VS) (MC MS : Nat) (Post : Option Nat → VS → Prop) (PX : Nat → Nat → VS → Prop), rec 2 a0 V MC MS Post PX → vx_Met l yX2_not (ws_ yX2_not cX2_not 1 (some (.object "SaidSo$Part"))) (rG N MC MS) (vPc [.ref a0] D cA A V) (va_Qq Post (vB D A) A) (vX D A PX) MC MS A) (R3 : ∀ (a0 : Nat) (V : VS) (MC MS : Nat) (Post : Option Nat → VS → Prop) (PX : Nat → Nat → VS → Prop), rec 3 a0 V MC MS Post PX → vx_Met l yX2_compare (ws_ yX2_compare cX2_compare 4 (some (.object "SaidSo$Part"))) (rG N MC MS) (vPc [.ref a0] D cA A V) (va_Qq Post (vB D A) A) (vX D A PX) MC MS A) (R4 : ∀ (a0 : Nat) (V : VS) (MC MS : Nat) (Post : Option Nat → VS → Prop) (PX : Nat → Nat → VS → Prop), rec 4 a0 V MC MS Post PX → vx_Met l yX2_sum (ws_ yX2_sum cX2_sum 3 (some (.object "SaidSo$Part"))) (rG N MC MS) (vPc [.ref a0] D cA A V) (va_Qq Post (vB D A) A) (vX D A PX) MC MS A) (R5 : ∀ (a0 : Nat) (V : VS) (MC MS : Nat) (Post : Option Nat → VS → Prop) (PX : Nat → Nat → VS → Prop), rec 5 a0 V MC MS Post PX → vx_Met l yX2_product (ws_ yX2_product cX2_product 3 (some (.object "SaidSo$Part"))) (rG N MC MS) (vPc [.ref a0] D cA A V) (va_Qq Post (vB D A) A) (vX D A PX) MC MS A) (R6 : ∀ (a0 : Nat) (V : VS) (MC MS : Nat) (Post : Option Nat → VS → Prop) (PX : Nat → Nat → VS → Prop), rec 6 a0 V MC MS Post PX → vx_Met l yX2_one (ws_ yX2_one cX2_one 2 (some (.object "SaidSo$Part"))) (rG N MC MS) (vPc [.ref a0] D cA A V) (va_Qq Post (vB D A) A) (vX D A PX) MC MS A) (a0 : Nat) (V : VS) (MC MS : Nat) (Post : Option Nat → VS → Prop) (PX : Nat → Nat → VS → Prop) (h : vX2_or cA rec a0 V MC MS Post PX) : vx_Met l yX2_or (ws_ yX2_or cX2_or 3 (some (.object "SaidSo$Part"))) (rG (N + 1) MC MS) (vPc [.ref a0] D cA A V) (va_Qq Post (vB D A) A) (vX D A PX) MC MS A := by
  refine vst (own := RX2) (by decide) rfl (Nat.le_of_ble_eq_true rfl) ?_
  intro p e s m args below meth c ls X hret hV hS hl
  obtain ⟨S, hK, hG, hA, hnm, hlocks, htab⟩ := X
  have hx := S.1
  have hb := S.2.1
  have hk : 0 ≤ MC ∧ 0 ≤ MS := ⟨Nat.zero_le _, Nat.zero_le _⟩
  have hl : lv_has ls 3 [(0, .ref a0)] := hl
  have L5 : ∀ (n : Nat) (x1 : Option Nat) (V : VS) (kc ks : Nat) (H : Heap) (locs : List Loc) (ls : Array Slot), HV D A V H → va_S A s.heap H locs → (kc ≤ MC ∧ ks ≤ MS) → lv_has ls 3 [(0, .ref a0), (1, va_rf x1)] → vX2_or_l5 cA rec a0 MC MS Post PX n x1 V kc ks → W p l e (rG (N + 1) MC MS) s m args below meth c H locs kc ks (vx_MQ below (va_Qq Post (vB D A) A) (vX D A PX) args s MC MS A) (F0 m 5 ls []) := by
    intro n
    induction n with
    | zero => intro x1 V kc ks H locs ls hV hS hk hl h; rw [vX2_or_l5] at h; exact h.elim
    | succ n ih =>
      intro x1 V kc ks H locs ls hV hS hk hl h
      rw [vX2_or_l5] at h
      refine lv_aload_n hx hb dX2_or_5 rfl (lv_at hl 0 rfl) ?_
      refine lv_bipush hx hb dX2_or_6 kb_14 ?_
      refine lv_bipush hx hb dX2_or_8 kb_14 ?_
      obtain ⟨o_9, e_10, h⟩ := bO_e h
      refine vk_i (vr_V (As := [.int (14 : Int32), .int (14 : Int32)]) (rest := []) S hK hG hA hV hS e_10 rfl (mvX2_isWord l a0 (14 : Int32) (14 : Int32) V _ h) (cwV 2 S.2.2.2.2 (lw_V q511 q513 qs7 q140 q514) rfl rfl rfl cdX2_isWord ⟨le_rf (Nat.le_of_ble_eq_true rfl), le_rl (Nat.le_of_ble_eq_true rfl)⟩) rfl hl.1 (Nat.le_of_ble_eq_true rfl) dX2_or_10 ⟨hk.1, hk.2⟩) hS (fun r_7 V_8 H locs h hV hS => ?_)
      refine lv_if_eq (tgt := 38) hx hb dX2_or_13 (by decide) (fun c_11 => ?_) (fun c_11 => ?_)
      · replace h := h.1 c_11
        refine lv_aload_nQ hx hb dX2_or_38 rfl (lv_at hl 1 rfl) ?_
        exact vx_ret (ve_q (r := x1) S hlocks hret (Or.inl ⟨_, rfl⟩) hV hS h hk.1 hk.2 dX2_or_39)
      · replace h := h.2 c_11
        refine lv_aload_n hx hb dX2_or_16 rfl (lv_at hl 0 rfl) ?_
        obtain ⟨mc_14, ms_15, hc1, hc2, h⟩ := h
        obtain ⟨o_16, e_17, h⟩ := bO_e h
        refine vy_i (vr_VX (As := []) (rest := []) S hK hG hA hV hS e_17 rfl (mvX2_sign2 l a0 V_8 mc_14 ms_15 _ _ h) (cwV 0 S.2.2.2.2 (lw_V q924 q926 qs30 q140 q927) rfl rfl rfl cdX2_sign2 ⟨le_rf (Nat.le_of_ble_eq_true rfl), le_rl (Nat.le_of_ble_eq_true rfl)⟩) rfl hl.1 (Nat.le_of_ble_eq_true rfl) dX2_or_17 ⟨hc1, hc2⟩) hS (vo_X htab hlocks hc1 hc2) (fun r_12 V_13 H locs h hV hS => ?_)
        have hk : kc + mc_14 ≤ MC ∧ ks + ms_15 ≤ MS := ⟨hc1, hc2⟩
        refine lv_istore_n (lv' := [(2, .int r_12), (0, .ref a0), (1, va_rf x1)]) hx hb dX2_or_20 rfl hl (by decide) (by cases x1 <;> rfl) (fun ls hl => ?_)
        obtain ⟨hc1, hc2, h⟩ := h
        refine vw_new (ci := 13) (fs := [.null, .int 0, .null]) (C := RX16) (T := TX16) (N := 3) S hK hV hS hA in_X16 tyX16 tyX16_ok q928 q929 q169 rfl (fun j hj => by first | (rcases j with _ | _ | _ | _ | _ | _ | _ | _ | _ | _ | _ | _ | _ | _ | _ | _ | _ | _ | _ | _ | _ | j <;> first | rfl | omega)) hc1 hc2 dX2_or_21 (fun q_18 V_19 H g1 g2 hV hS => ?_)
        replace h := h q_18 V_19 g1 g2
        have hk : kc + mc_14 + 1 ≤ MC ∧ ks + ms_15 + 3 ≤ MS := ⟨hc1, hc2⟩
        refine lv_dup hx hb dX2_or_24 rfl ?_
        refine lv_iload_n hx hb dX2_or_25 rfl (lv_at hl 0 rfl) ?_
        refine lv_aload_nQ hx hb dX2_or_26 rfl (lv_at hl 2 rfl) ?_
        refine lv_aload_n hx hb dX2_or_27 rfl (lv_at hl 1 rfl) ?_
        obtain ⟨mc_20, ms_21, hc1, hc2, h⟩ := h
        obtain ⟨o_22, e_23, h⟩ := bO_e h
        refine vy_q (vr_VX (As := []) (rest := [va_rf x1, .int r_12, .ref q_18, .ref q_18]) S hK hG hA hV hS e_23 rfl (R1 _ _ _ _ _ _ h) (cwV 0 S.2.2.2.2 (lw_V q869 q871 qs22 q140 q872) rfl rfl rfl cdX2_and ⟨le_rg, le_rgl (Nat.le_of_ble_eq_true rfl)⟩) rfl hl.1 (by cases x1 <;> exact Nat.le_of_ble_eq_true rfl) dX2_or_28 ⟨hc1, hc2⟩) hS (vo_X htab hlocks hc1 hc2) (fun p_24 V_25 H locs h hV hS => ?_)
        have hk : kc + mc_14 + 1 + mc_20 ≤ MC ∧ ks + ms_15 + 3 + ms_21 ≤ MS := ⟨hc1, hc2⟩
        obtain ⟨n_26, z_n_26, h9⟩ := bO_e h
        clear h; subst z_n_26; have h := h9; clear h9
        obtain ⟨n_27, z_n_27, h9⟩ := bO_e h
        clear h; subst z_n_27; have h := h9; clear h9
        refine vk_v (vr_I (As := [.int r_12, .ref n_27, .ref n_26]) (rest := [.ref q_18]) S hK hG hA hV hS (mvX16_init l q_18 r_12 n_27 n_26 V_25 _ h) (cwI 3 S.2.2.2.2 (lw_meth q932) rfl rfl rfl (S.2.2.2.2 _ q169) (S.2.2.2.2 _ q930) (S.2.2.2.2 _ q931) rfl cdX16_init ⟨le_rf (Nat.le_of_ble_eq_true rfl), le_rl (Nat.le_of_ble_eq_true rfl)⟩) rfl hl.1 (Nat.le_of_ble_eq_true rfl) dX2_or_31 ⟨hk.1, hk.2⟩) hS (fun V_29 H locs h hV hS => ?_)
        refine lv_astore_n (lv' := [(1, .ref q_18), (2, .int r_12), (0, .ref a0)]) hx hb dX2_or_34 rfl hl (by decide) rfl (fun ls hl => ?_)
        refine lv_goto (tgt := 5) hx hb dX2_or_35 (by decide) ?_
        exact ih _ _ _ _ _ _ _ hV hS hk (lv_sub hl [2, 0] rfl) h
  unfold vX2_or at h
  refine lv_aload_n hx hb dX2_or_0 rfl (lv_at hl 0 rfl) ?_
  obtain ⟨mc_1, ms_2, hc1, hc2, h⟩ := h
  obtain ⟨o_3, e_4, h⟩ := bO_e h
  refine vy_q (vr_VX (As := []) (rest := []) S hK hG hA hV hS e_4 rfl (R1 _ _ _ _ _ _ h) (cwV 0 S.2.2.2.2 (lw_V q869 q871 qs22 q140 q872) rfl rfl rfl cdX2_and ⟨le_rg, le_rgl (Nat.le_of_ble_eq_true rfl)⟩) rfl hl.1 (Nat.le_of_ble_eq_true rfl) dX2_or_1 ⟨hc1, hc2⟩) hS (vo_X htab hlocks hc1 hc2) (fun p_5 V_6 H locs h hV hS => ?_)
  have hk : 0 + mc_1 ≤ MC ∧ 0 + ms_2 ≤ MS := ⟨hc1, hc2⟩
  refine lv_astore_nQ (r := p_5) (lv' := [(1, va_rf p_5), (0, .ref a0)]) hx hb dX2_or_4 rfl hl (by decide) rfl (fun ls hl => ?_)
  obtain ⟨f, h⟩ := h
  exact L5 f _ _ _ _ _ _ _ hV hS hk (lv_sub hl [1, 0] rfl) h
def vX2_and_l5 (cA : Nat → ClassId) (rec : RTG) (a0 : Nat) (MC MS : Nat) (Post : Option Nat → VS → Prop) (PX : Nat → Nat → VS → Prop) : Nat → Option Nat → VS → Nat → Nat → Prop
  | 0, _, _, _, _ => False
  | n + 1, x1, V, kc, ks => bO (vO V [2] a0) (fun o_9 => vX2_isWord cA a0 (15 : Int32) (15 : Int32) V (fun r_7 V_8 => (r_7 = 0 → (Post (x1) V_8)) ∧ (¬ (r_7 = 0) → (∃ mc_14 ms_15 : Nat, kc + mc_14 ≤ MC ∧ ks + ms_15 ≤ MS ∧ bO (vO V_8 [2] a0) (fun o_16 => vX2_sign2 cA a0 V_8 mc_14 ms_15 (fun r_12 V_13 => (kc + mc_14 + 1 ≤ MC ∧ ks + ms_15 + 3 ≤ MS ∧ ∀ (q_18 : Nat) (V_19 : VS), V_13 q_18 = none → V_19 = vU V_13 q_18 (.inr (13, [.null, .int 0, .null])) → ∃ mc_20 ms_21 : Nat, kc + mc_14 + 1 + mc_20 ≤ MC ∧ ks + ms_15 + 3 + ms_21 ≤ MS ∧ bO (vO V_19 [2] a0) (fun o_22 => rec 2 a0 V_19 mc_20 ms_21 (fun p_24 V_25 => bO p_24 (fun n_26 => bO x1 (fun n_27 => vX16_init cA q_18 r_12 n_27 n_26 V_25 (fun V_29 => vX2_and_l5 cA rec a0 MC MS Post PX n (some q_18) V_29 (kc + mc_14 + 1 + mc_20) (ks + ms_15 + 3 + ms_21))))) PX))) PX)))))
def vX2_and (cA : Nat → ClassId) (rec : RTG) (a0 : Nat) (V : VS) (MC MS : Nat) (Post : Option Nat → VS → Prop) (PX : Nat → Nat → VS → Prop) : Prop := ∃ mc_1 ms_2 : Nat, 0 + mc_1 ≤ MC ∧ 0 + ms_2 ≤ MS ∧ bO (vO V [2] a0) (fun o_3 => rec 2 a0 V mc_1 ms_2 (fun p_5 V_6 => ∃ f, vX2_and_l5 cA rec a0 MC MS Post PX f p_5 V_6 (0 + mc_1) (0 + ms_2)) PX)
set_option maxHeartbeats 4000000 in
set_option maxRecDepth 100000 in
theorem mvX2_and (l : Launch) {D : va_G} {cA : Nat → ClassId} {A : Nat → Prop} (N : Nat) (rec : RTG) (R0 : ∀ (a0 : Nat) (V : VS) (MC MS : Nat) (Post : Option Nat → VS → Prop) (PX : Nat → Nat → VS → Prop), rec 0 a0 V MC MS Post PX → vx_Met l yX2_or (ws_ yX2_or cX2_or 3 (some (.object "SaidSo$Part"))) (rG N MC MS) (vPc [.ref a0] D cA A V) (va_Qq Post (vB D A) A) (vX D A PX) MC MS A) (R1 : ∀ (a0 : Nat) (V : VS) (MC MS : Nat) (Post : Option Nat → VS → Prop) (PX : Nat → Nat → VS → Prop), rec 1 a0 V MC MS Post PX → vx_Met l yX2_and (ws_ yX2_and cX2_and 3 (some (.object "SaidSo$Part"))) (rG N MC MS) (vPc [.ref a0] D cA A V) (va_Qq Post (vB D A) A) (vX D A PX) MC MS A) (R2 : ∀ (a0 : Nat) (V : VS) (MC MS : Nat) (Post : Option Nat → VS → Prop) (PX : Nat → Nat → VS → Prop), rec 2 a0 V MC MS Post PX → vx_Met l yX2_not (ws_ yX2_not cX2_not 1 (some (.object "SaidSo$Part"))) (rG N MC MS) (vPc [.ref a0] D cA A V) (va_Qq Post (vB D A) A) (vX D A PX) MC MS A) (R3 : ∀ (a0 : Nat) (V : VS) (MC MS : Nat) (Post : Option Nat → VS → Prop) (PX : Nat → Nat → VS → Prop), rec 3 a0 V MC MS Post PX → vx_Met l yX2_compare (ws_ yX2_compare cX2_compare 4 (some (.object "SaidSo$Part"))) (rG N MC MS) (vPc [.ref a0] D cA A V) (va_Qq Post (vB D A) A) (vX D A PX) MC MS A) (R4 : ∀ (a0 : Nat) (V : VS) (MC MS : Nat) (Post : Option Nat → VS → Prop) (PX : Nat → Nat → VS → Prop), rec 4 a0 V MC MS Post PX → vx_Met l yX2_sum (ws_ yX2_sum cX2_sum 3 (some (.object "SaidSo$Part"))) (rG N MC MS) (vPc [.ref a0] D cA A V) (va_Qq Post (vB D A) A) (vX D A PX) MC MS A) (R5 : ∀ (a0 : Nat) (V : VS) (MC MS : Nat) (Post : Option Nat → VS → Prop) (PX : Nat → Nat → VS → Prop), rec 5 a0 V MC MS Post PX → vx_Met l yX2_product (ws_ yX2_product cX2_product 3 (some (.object "SaidSo$Part"))) (rG N MC MS) (vPc [.ref a0] D cA A V) (va_Qq Post (vB D A) A) (vX D A PX) MC MS A) (R6 : ∀ (a0 : Nat) (V : VS) (MC MS : Nat) (Post : Option Nat → VS → Prop) (PX : Nat → Nat → VS → Prop), rec 6 a0 V MC MS Post PX → vx_Met l yX2_one (ws_ yX2_one cX2_one 2 (some (.object "SaidSo$Part"))) (rG N MC MS) (vPc [.ref a0] D cA A V) (va_Qq Post (vB D A) A) (vX D A PX) MC MS A) (a0 : Nat) (V : VS) (MC MS : Nat) (Post : Option Nat → VS → Prop) (PX : Nat → Nat → VS → Prop) (h : vX2_and cA rec a0 V MC MS Post PX) : vx_Met l yX2_and (ws_ yX2_and cX2_and 3 (some (.object "SaidSo$Part"))) (rG (N + 1) MC MS) (vPc [.ref a0] D cA A V) (va_Qq Post (vB D A) A) (vX D A PX) MC MS A := by
  refine vst (own := RX2) (by decide) rfl (Nat.le_of_ble_eq_true rfl) ?_
  intro p e s m args below meth c ls X hret hV hS hl
  obtain ⟨S, hK, hG, hA, hnm, hlocks, htab⟩ := X
  have hx := S.1
  have hb := S.2.1
  have hk : 0 ≤ MC ∧ 0 ≤ MS := ⟨Nat.zero_le _, Nat.zero_le _⟩
  have hl : lv_has ls 3 [(0, .ref a0)] := hl
  have L5 : ∀ (n : Nat) (x1 : Option Nat) (V : VS) (kc ks : Nat) (H : Heap) (locs : List Loc) (ls : Array Slot), HV D A V H → va_S A s.heap H locs → (kc ≤ MC ∧ ks ≤ MS) → lv_has ls 3 [(0, .ref a0), (1, va_rf x1)] → vX2_and_l5 cA rec a0 MC MS Post PX n x1 V kc ks → W p l e (rG (N + 1) MC MS) s m args below meth c H locs kc ks (vx_MQ below (va_Qq Post (vB D A) A) (vX D A PX) args s MC MS A) (F0 m 5 ls []) := by
    intro n
    induction n with
    | zero => intro x1 V kc ks H locs ls hV hS hk hl h; rw [vX2_and_l5] at h; exact h.elim
    | succ n ih =>
      intro x1 V kc ks H locs ls hV hS hk hl h
      rw [vX2_and_l5] at h
      refine lv_aload_n hx hb dX2_and_5 rfl (lv_at hl 0 rfl) ?_
      refine lv_bipush hx hb dX2_and_6 kb_15 ?_
      refine lv_bipush hx hb dX2_and_8 kb_15 ?_
      obtain ⟨o_9, e_10, h⟩ := bO_e h
      refine vk_i (vr_V (As := [.int (15 : Int32), .int (15 : Int32)]) (rest := []) S hK hG hA hV hS e_10 rfl (mvX2_isWord l a0 (15 : Int32) (15 : Int32) V _ h) (cwV 2 S.2.2.2.2 (lw_V q511 q513 qs7 q140 q514) rfl rfl rfl cdX2_isWord ⟨le_rf (Nat.le_of_ble_eq_true rfl), le_rl (Nat.le_of_ble_eq_true rfl)⟩) rfl hl.1 (Nat.le_of_ble_eq_true rfl) dX2_and_10 ⟨hk.1, hk.2⟩) hS (fun r_7 V_8 H locs h hV hS => ?_)
      refine lv_if_eq (tgt := 38) hx hb dX2_and_13 (by decide) (fun c_11 => ?_) (fun c_11 => ?_)
      · replace h := h.1 c_11
        refine lv_aload_nQ hx hb dX2_and_38 rfl (lv_at hl 1 rfl) ?_
        exact vx_ret (ve_q (r := x1) S hlocks hret (Or.inl ⟨_, rfl⟩) hV hS h hk.1 hk.2 dX2_and_39)
      · replace h := h.2 c_11
        refine lv_aload_n hx hb dX2_and_16 rfl (lv_at hl 0 rfl) ?_
        obtain ⟨mc_14, ms_15, hc1, hc2, h⟩ := h
        obtain ⟨o_16, e_17, h⟩ := bO_e h
        refine vy_i (vr_VX (As := []) (rest := []) S hK hG hA hV hS e_17 rfl (mvX2_sign2 l a0 V_8 mc_14 ms_15 _ _ h) (cwV 0 S.2.2.2.2 (lw_V q924 q926 qs30 q140 q927) rfl rfl rfl cdX2_sign2 ⟨le_rf (Nat.le_of_ble_eq_true rfl), le_rl (Nat.le_of_ble_eq_true rfl)⟩) rfl hl.1 (Nat.le_of_ble_eq_true rfl) dX2_and_17 ⟨hc1, hc2⟩) hS (vo_X htab hlocks hc1 hc2) (fun r_12 V_13 H locs h hV hS => ?_)
        have hk : kc + mc_14 ≤ MC ∧ ks + ms_15 ≤ MS := ⟨hc1, hc2⟩
        refine lv_istore_n (lv' := [(2, .int r_12), (0, .ref a0), (1, va_rf x1)]) hx hb dX2_and_20 rfl hl (by decide) (by cases x1 <;> rfl) (fun ls hl => ?_)
        obtain ⟨hc1, hc2, h⟩ := h
        refine vw_new (ci := 13) (fs := [.null, .int 0, .null]) (C := RX16) (T := TX16) (N := 3) S hK hV hS hA in_X16 tyX16 tyX16_ok q928 q929 q169 rfl (fun j hj => by first | (rcases j with _ | _ | _ | _ | _ | _ | _ | _ | _ | _ | _ | _ | _ | _ | _ | _ | _ | _ | _ | _ | _ | j <;> first | rfl | omega)) hc1 hc2 dX2_and_21 (fun q_18 V_19 H g1 g2 hV hS => ?_)
        replace h := h q_18 V_19 g1 g2
        have hk : kc + mc_14 + 1 ≤ MC ∧ ks + ms_15 + 3 ≤ MS := ⟨hc1, hc2⟩
        refine lv_dup hx hb dX2_and_24 rfl ?_
        refine lv_iload_n hx hb dX2_and_25 rfl (lv_at hl 0 rfl) ?_
        refine lv_aload_nQ hx hb dX2_and_26 rfl (lv_at hl 2 rfl) ?_
        refine lv_aload_n hx hb dX2_and_27 rfl (lv_at hl 1 rfl) ?_
        obtain ⟨mc_20, ms_21, hc1, hc2, h⟩ := h
        obtain ⟨o_22, e_23, h⟩ := bO_e h
        refine vy_q (vr_VX (As := []) (rest := [va_rf x1, .int r_12, .ref q_18, .ref q_18]) S hK hG hA hV hS e_23 rfl (R2 _ _ _ _ _ _ h) (cwV 0 S.2.2.2.2 (lw_V q873 q875 qs23 q140 q876) rfl rfl rfl cdX2_not ⟨le_rg, le_rgl (Nat.le_of_ble_eq_true rfl)⟩) rfl hl.1 (by cases x1 <;> exact Nat.le_of_ble_eq_true rfl) dX2_and_28 ⟨hc1, hc2⟩) hS (vo_X htab hlocks hc1 hc2) (fun p_24 V_25 H locs h hV hS => ?_)
        have hk : kc + mc_14 + 1 + mc_20 ≤ MC ∧ ks + ms_15 + 3 + ms_21 ≤ MS := ⟨hc1, hc2⟩
        obtain ⟨n_26, z_n_26, h9⟩ := bO_e h
        clear h; subst z_n_26; have h := h9; clear h9
        obtain ⟨n_27, z_n_27, h9⟩ := bO_e h
        clear h; subst z_n_27; have h := h9; clear h9
        refine vk_v (vr_I (As := [.int r_12, .ref n_27, .ref n_26]) (rest := [.ref q_18]) S hK hG hA hV hS (mvX16_init l q_18 r_12 n_27 n_26 V_25 _ h) (cwI 3 S.2.2.2.2 (lw_meth q932) rfl rfl rfl (S.2.2.2.2 _ q169) (S.2.2.2.2 _ q930) (S.2.2.2.2 _ q931) rfl cdX16_init ⟨le_rf (Nat.le_of_ble_eq_true rfl), le_rl (Nat.le_of_ble_eq_true rfl)⟩) rfl hl.1 (Nat.le_of_ble_eq_true rfl) dX2_and_31 ⟨hk.1, hk.2⟩) hS (fun V_29 H locs h hV hS => ?_)
        refine lv_astore_n (lv' := [(1, .ref q_18), (2, .int r_12), (0, .ref a0)]) hx hb dX2_and_34 rfl hl (by decide) rfl (fun ls hl => ?_)
        refine lv_goto (tgt := 5) hx hb dX2_and_35 (by decide) ?_
        exact ih _ _ _ _ _ _ _ hV hS hk (lv_sub hl [2, 0] rfl) h
  unfold vX2_and at h
  refine lv_aload_n hx hb dX2_and_0 rfl (lv_at hl 0 rfl) ?_
  obtain ⟨mc_1, ms_2, hc1, hc2, h⟩ := h
  obtain ⟨o_3, e_4, h⟩ := bO_e h
  refine vy_q (vr_VX (As := []) (rest := []) S hK hG hA hV hS e_4 rfl (R2 _ _ _ _ _ _ h) (cwV 0 S.2.2.2.2 (lw_V q873 q875 qs23 q140 q876) rfl rfl rfl cdX2_not ⟨le_rg, le_rgl (Nat.le_of_ble_eq_true rfl)⟩) rfl hl.1 (Nat.le_of_ble_eq_true rfl) dX2_and_1 ⟨hc1, hc2⟩) hS (vo_X htab hlocks hc1 hc2) (fun p_5 V_6 H locs h hV hS => ?_)
  have hk : 0 + mc_1 ≤ MC ∧ 0 + ms_2 ≤ MS := ⟨hc1, hc2⟩
  refine lv_astore_nQ (r := p_5) (lv' := [(1, va_rf p_5), (0, .ref a0)]) hx hb dX2_and_4 rfl hl (by decide) rfl (fun ls hl => ?_)
  obtain ⟨f, h⟩ := h
  exact L5 f _ _ _ _ _ _ _ hV hS hk (lv_sub hl [1, 0] rfl) h
def vX2_not (cA : Nat → ClassId) (rec : RTG) (a0 : Nat) (V : VS) (MC MS : Nat) (Post : Option Nat → VS → Prop) (PX : Nat → Nat → VS → Prop) : Prop := bO (vO V [2] a0) (fun o_3 => vX2_isWord cA a0 (16 : Int32) (16 : Int32) V (fun r_1 V_2 => (r_1 = 0 → (∃ mc_27 ms_28 : Nat, 0 + mc_27 ≤ MC ∧ 0 + ms_28 ≤ MS ∧ bO (vO V_2 [2] a0) (fun o_29 => rec 3 a0 V_2 mc_27 ms_28 (fun p_31 V_32 => Post (p_31) V_32) PX))) ∧ (¬ (r_1 = 0) → (∃ mc_8 ms_9 : Nat, 0 + mc_8 ≤ MC ∧ 0 + ms_9 ≤ MS ∧ bO (vO V_2 [2] a0) (fun o_10 => vX2_knot cA a0 V_2 mc_8 ms_9 (fun V_7 => bO (vO V_7 [2] a0) (fun o_14 => vX2_next cA a0 V_7 (fun V_13 => (0 + mc_8 + 1 ≤ MC ∧ 0 + ms_9 + 1 ≤ MS ∧ ∀ (q_16 : Nat) (V_17 : VS), V_13 q_16 = none → V_17 = vU V_13 q_16 (.inr (12, [.null])) → ∃ mc_18 ms_19 : Nat, 0 + mc_8 + 1 + mc_18 ≤ MC ∧ 0 + ms_9 + 1 + ms_19 ≤ MS ∧ bO (vO V_17 [2] a0) (fun o_20 => rec 2 a0 V_17 mc_18 ms_19 (fun p_22 V_23 => bO p_22 (fun n_24 => vX15_init cA q_16 n_24 V_23 (fun V_26 => Post (some q_16) V_26))) PX))))) PX)))))
set_option maxHeartbeats 4000000 in
set_option maxRecDepth 100000 in
theorem mvX2_not (l : Launch) {D : va_G} {cA : Nat → ClassId} {A : Nat → Prop} (N : Nat) (rec : RTG) (R0 : ∀ (a0 : Nat) (V : VS) (MC MS : Nat) (Post : Option Nat → VS → Prop) (PX : Nat → Nat → VS → Prop), rec 0 a0 V MC MS Post PX → vx_Met l yX2_or (ws_ yX2_or cX2_or 3 (some (.object "SaidSo$Part"))) (rG N MC MS) (vPc [.ref a0] D cA A V) (va_Qq Post (vB D A) A) (vX D A PX) MC MS A) (R1 : ∀ (a0 : Nat) (V : VS) (MC MS : Nat) (Post : Option Nat → VS → Prop) (PX : Nat → Nat → VS → Prop), rec 1 a0 V MC MS Post PX → vx_Met l yX2_and (ws_ yX2_and cX2_and 3 (some (.object "SaidSo$Part"))) (rG N MC MS) (vPc [.ref a0] D cA A V) (va_Qq Post (vB D A) A) (vX D A PX) MC MS A) (R2 : ∀ (a0 : Nat) (V : VS) (MC MS : Nat) (Post : Option Nat → VS → Prop) (PX : Nat → Nat → VS → Prop), rec 2 a0 V MC MS Post PX → vx_Met l yX2_not (ws_ yX2_not cX2_not 1 (some (.object "SaidSo$Part"))) (rG N MC MS) (vPc [.ref a0] D cA A V) (va_Qq Post (vB D A) A) (vX D A PX) MC MS A) (R3 : ∀ (a0 : Nat) (V : VS) (MC MS : Nat) (Post : Option Nat → VS → Prop) (PX : Nat → Nat → VS → Prop), rec 3 a0 V MC MS Post PX → vx_Met l yX2_compare (ws_ yX2_compare cX2_compare 4 (some (.object "SaidSo$Part"))) (rG N MC MS) (vPc [.ref a0] D cA A V) (va_Qq Post (vB D A) A) (vX D A PX) MC MS A) (R4 : ∀ (a0 : Nat) (V : VS) (MC MS : Nat) (Post : Option Nat → VS → Prop) (PX : Nat → Nat → VS → Prop), rec 4 a0 V MC MS Post PX → vx_Met l yX2_sum (ws_ yX2_sum cX2_sum 3 (some (.object "SaidSo$Part"))) (rG N MC MS) (vPc [.ref a0] D cA A V) (va_Qq Post (vB D A) A) (vX D A PX) MC MS A) (R5 : ∀ (a0 : Nat) (V : VS) (MC MS : Nat) (Post : Option Nat → VS → Prop) (PX : Nat → Nat → VS → Prop), rec 5 a0 V MC MS Post PX → vx_Met l yX2_product (ws_ yX2_product cX2_product 3 (some (.object "SaidSo$Part"))) (rG N MC MS) (vPc [.ref a0] D cA A V) (va_Qq Post (vB D A) A) (vX D A PX) MC MS A) (R6 : ∀ (a0 : Nat) (V : VS) (MC MS : Nat) (Post : Option Nat → VS → Prop) (PX : Nat → Nat → VS → Prop), rec 6 a0 V MC MS Post PX → vx_Met l yX2_one (ws_ yX2_one cX2_one 2 (some (.object "SaidSo$Part"))) (rG N MC MS) (vPc [.ref a0] D cA A V) (va_Qq Post (vB D A) A) (vX D A PX) MC MS A) (a0 : Nat) (V : VS) (MC MS : Nat) (Post : Option Nat → VS → Prop) (PX : Nat → Nat → VS → Prop) (h : vX2_not cA rec a0 V MC MS Post PX) : vx_Met l yX2_not (ws_ yX2_not cX2_not 1 (some (.object "SaidSo$Part"))) (rG (N + 1) MC MS) (vPc [.ref a0] D cA A V) (va_Qq Post (vB D A) A) (vX D A PX) MC MS A := by
  refine vst (own := RX2) (by decide) rfl (Nat.le_of_ble_eq_true rfl) ?_
  intro p e s m args below meth c ls X hret hV hS hl
  obtain ⟨S, hK, hG, hA, hnm, hlocks, htab⟩ := X
  have hx := S.1
  have hb := S.2.1
  have hk : 0 ≤ MC ∧ 0 ≤ MS := ⟨Nat.zero_le _, Nat.zero_le _⟩
  have hl : lv_has ls 1 [(0, .ref a0)] := hl
  unfold vX2_not at h
  refine lv_aload_n hx hb dX2_not_0 rfl (lv_at hl 0 rfl) ?_
  refine lv_bipush hx hb dX2_not_1 kb_16 ?_
  refine lv_bipush hx hb dX2_not_3 kb_16 ?_
  obtain ⟨o_3, e_4, h⟩ := bO_e h
  refine vk_i (vr_V (As := [.int (16 : Int32), .int (16 : Int32)]) (rest := []) S hK hG hA hV hS e_4 rfl (mvX2_isWord l a0 (16 : Int32) (16 : Int32) V _ h) (cwV 2 S.2.2.2.2 (lw_V q511 q513 qs7 q140 q514) rfl rfl rfl cdX2_isWord ⟨le_rf (Nat.le_of_ble_eq_true rfl), le_rl (Nat.le_of_ble_eq_true rfl)⟩) rfl hl.1 (Nat.le_of_ble_eq_true rfl) dX2_not_5 ⟨hk.1, hk.2⟩) hS (fun r_1 V_2 H locs h hV hS => ?_)
  refine lv_if_ne (tgt := 16) hx hb dX2_not_8 (by decide) (fun c_5 => ?_) (fun c_5 => ?_)
  · replace h := h.2 c_5
    refine lv_aload_n hx hb dX2_not_16 rfl (lv_at hl 0 rfl) ?_
    obtain ⟨mc_8, ms_9, hc1, hc2, h⟩ := h
    obtain ⟨o_10, e_11, h⟩ := bO_e h
    refine vy_v (vr_VX (As := []) (rest := []) S hK hG hA hV hS e_11 rfl (mvX2_knot l a0 V_2 mc_8 ms_9 _ _ h) (cwV 0 S.2.2.2.2 (lw_V q897 q899 qs29 q140 q900) rfl rfl rfl cdX2_knot ⟨le_rf (Nat.le_of_ble_eq_true rfl), le_rl (Nat.le_of_ble_eq_true rfl)⟩) rfl hl.1 (Nat.le_of_ble_eq_true rfl) dX2_not_17 ⟨hc1, hc2⟩) hS (vo_X htab hlocks hc1 hc2) (fun V_7 H locs h hV hS => ?_)
    have hk : 0 + mc_8 ≤ MC ∧ 0 + ms_9 ≤ MS := ⟨hc1, hc2⟩
    refine lv_aload_n hx hb dX2_not_20 rfl (lv_at hl 0 rfl) ?_
    obtain ⟨o_14, e_15, h⟩ := bO_e h
    refine vk_v (vr_V (As := []) (rest := []) S hK hG hA hV hS e_15 rfl (mvX2_next l a0 V_7 _ h) (cwV 0 S.2.2.2.2 (lw_V q376 q378 qs1 q140 q379) rfl rfl rfl cdX2_next ⟨le_rf (Nat.le_of_ble_eq_true rfl), le_rl (Nat.le_of_ble_eq_true rfl)⟩) rfl hl.1 (Nat.le_of_ble_eq_true rfl) dX2_not_21 ⟨hk.1, hk.2⟩) hS (fun V_13 H locs h hV hS => ?_)
    obtain ⟨hc1, hc2, h⟩ := h
    refine vw_new (ci := 12) (fs := [.null]) (C := RX15) (T := TX15) (N := 1) S hK hV hS hA in_X15 tyX15 tyX15_ok q949 q950 q168 rfl (fun j hj => by first | (rcases j with _ | _ | _ | _ | _ | _ | _ | _ | _ | _ | _ | _ | _ | _ | _ | _ | _ | _ | _ | _ | _ | j <;> first | rfl | omega)) hc1 hc2 dX2_not_24 (fun q_16 V_17 H g1 g2 hV hS => ?_)
    replace h := h q_16 V_17 g1 g2
    have hk : 0 + mc_8 + 1 ≤ MC ∧ 0 + ms_9 + 1 ≤ MS := ⟨hc1, hc2⟩
    refine lv_dup hx hb dX2_not_27 rfl ?_
    refine lv_aload_n hx hb dX2_not_28 rfl (lv_at hl 0 rfl) ?_
    obtain ⟨mc_18, ms_19, hc1, hc2, h⟩ := h
    obtain ⟨o_20, e_21, h⟩ := bO_e h
    refine vy_q (vr_VX (As := []) (rest := [.ref q_16, .ref q_16]) S hK hG hA hV hS e_21 rfl (R2 _ _ _ _ _ _ h) (cwV 0 S.2.2.2.2 (lw_V q873 q875 qs23 q140 q876) rfl rfl rfl cdX2_not ⟨le_rg, le_rgl (Nat.le_of_ble_eq_true rfl)⟩) rfl hl.1 (Nat.le_of_ble_eq_true rfl) dX2_not_29 ⟨hc1, hc2⟩) hS (vo_X htab hlocks hc1 hc2) (fun p_22 V_23 H locs h hV hS => ?_)
    have hk : 0 + mc_8 + 1 + mc_18 ≤ MC ∧ 0 + ms_9 + 1 + ms_19 ≤ MS := ⟨hc1, hc2⟩
    obtain ⟨n_24, z_n_24, h9⟩ := bO_e h
    clear h; subst z_n_24; have h := h9; clear h9
    refine vk_v (vr_I (As := [.ref n_24]) (rest := [.ref q_16]) S hK hG hA hV hS (mvX15_init l q_16 n_24 V_23 _ h) (cwI 1 S.2.2.2.2 (lw_meth q935) rfl rfl rfl (S.2.2.2.2 _ q168) (S.2.2.2.2 _ q951) (S.2.2.2.2 _ q934) rfl cdX15_init ⟨le_rf (Nat.le_of_ble_eq_true rfl), le_rl (Nat.le_of_ble_eq_true rfl)⟩) rfl hl.1 (Nat.le_of_ble_eq_true rfl) dX2_not_32 ⟨hk.1, hk.2⟩) hS (fun V_26 H locs h hV hS => ?_)
    exact vx_ret (ve_q (r := some q_16) S hlocks hret (Or.inl ⟨_, rfl⟩) hV hS h hk.1 hk.2 dX2_not_35)
  · replace h := h.1 c_5
    refine lv_aload_n hx hb dX2_not_11 rfl (lv_at hl 0 rfl) ?_
    obtain ⟨mc_27, ms_28, hc1, hc2, h⟩ := h
    obtain ⟨o_29, e_30, h⟩ := bO_e h
    refine vy_q (vr_VX (As := []) (rest := []) S hK hG hA hV hS e_30 rfl (R3 _ _ _ _ _ _ h) (cwV 0 S.2.2.2.2 (lw_V q877 q879 qs24 q140 q880) rfl rfl rfl cdX2_compare ⟨le_rg, le_rgl (Nat.le_of_ble_eq_true rfl)⟩) rfl hl.1 (Nat.le_of_ble_eq_true rfl) dX2_not_12 ⟨hc1, hc2⟩) hS (vo_X htab hlocks hc1 hc2) (fun p_31 V_32 H locs h hV hS => ?_)
    have hk : 0 + mc_27 ≤ MC ∧ 0 + ms_28 ≤ MS := ⟨hc1, hc2⟩
    exact vx_ret (ve_q (r := p_31) S hlocks hret (Or.inl ⟨_, rfl⟩) hV hS h hk.1 hk.2 dX2_not_15)
def vX2_compare_c55 (cA : Nat → ClassId) (rec : RTG) (a0 : Nat) (MC MS : Nat) (Post : Option Nat → VS → Prop) (PX : Nat → Nat → VS → Prop) (x1 : Option Nat) (t0 : Int32) (V : VS) (kc ks : Nat) : Prop := (t0 = 0 → (Post (x1) V)) ∧ (¬ (t0 = 0) → (∃ mc_15 ms_16 : Nat, kc + mc_15 ≤ MC ∧ ks + ms_16 ≤ MS ∧ bO (vO V [2] a0) (fun o_17 => vX2_sign2 cA a0 V mc_15 ms_16 (fun r_13 V_14 => (kc + mc_15 + 1 ≤ MC ∧ ks + ms_16 + 3 ≤ MS ∧ ∀ (q_19 : Nat) (V_20 : VS), V_14 q_19 = none → V_20 = vU V_14 q_19 (.inr (13, [.null, .int 0, .null])) → ∃ mc_21 ms_22 : Nat, kc + mc_15 + 1 + mc_21 ≤ MC ∧ ks + ms_16 + 3 + ms_22 ≤ MS ∧ bO (vO V_20 [2] a0) (fun o_23 => rec 4 a0 V_20 mc_21 ms_22 (fun p_25 V_26 => bO p_25 (fun n_27 => bO x1 (fun n_28 => vX16_init cA q_19 r_13 n_28 n_27 V_26 (fun V_30 => Post (some q_19) V_30)))) PX))) PX)))
def vX2_compare_c50 (cA : Nat → ClassId) (rec : RTG) (a0 : Nat) (MC MS : Nat) (Post : Option Nat → VS → Prop) (PX : Nat → Nat → VS → Prop) (x1 : Option Nat) (V : VS) (kc ks : Nat) : Prop := vX2_compare_c55 cA rec a0 MC MS Post PX x1 (1 : Int32) V kc ks
def vX2_compare_c54 (cA : Nat → ClassId) (rec : RTG) (a0 : Nat) (MC MS : Nat) (Post : Option Nat → VS → Prop) (PX : Nat → Nat → VS → Prop) (x1 : Option Nat) (V : VS) (kc ks : Nat) : Prop := vX2_compare_c55 cA rec a0 MC MS Post PX x1 (0 : Int32) V kc ks
def vX2_compare (cA : Nat → ClassId) (rec : RTG) (a0 : Nat) (V : VS) (MC MS : Nat) (Post : Option Nat → VS → Prop) (PX : Nat → Nat → VS → Prop) : Prop := ∃ mc_1 ms_2 : Nat, 0 + mc_1 ≤ MC ∧ 0 + ms_2 ≤ MS ∧ bO (vO V [2] a0) (fun o_3 => rec 4 a0 V mc_1 ms_2 (fun p_5 V_6 => bO (vO V_6 [2] a0) (fun o_9 => vX2_isSign cA a0 (60 : Int32) V_6 (fun r_7 V_8 => (r_7 = 0 → (bO (vO V_8 [2] a0) (fun o_33 => vX2_isSign cA a0 (62 : Int32) V_8 (fun r_31 V_32 => (r_31 = 0 → (bO (vO V_32 [2] a0) (fun o_38 => vX2_isSign cA a0 (61 : Int32) V_32 (fun r_36 V_37 => (r_36 = 0 → (bO (gI V_37 [2] a0 3) (fun g_41 => (g_41 = (3 : Int32) → (bO (gI V_37 [2] a0 4) (fun g_44 => (g_44 < (256 : Int32) → (vX2_compare_c54 cA rec a0 MC MS Post PX p_5 V_37 (0 + mc_1) (0 + ms_2))) ∧ (¬ (g_44 < (256 : Int32)) → (vX2_compare_c50 cA rec a0 MC MS Post PX p_5 V_37 (0 + mc_1) (0 + ms_2)))))) ∧ (¬ (g_41 = (3 : Int32)) → (vX2_compare_c54 cA rec a0 MC MS Post PX p_5 V_37 (0 + mc_1) (0 + ms_2)))))) ∧ (¬ (r_36 = 0) → (vX2_compare_c50 cA rec a0 MC MS Post PX p_5 V_37 (0 + mc_1) (0 + ms_2))))))) ∧ (¬ (r_31 = 0) → (vX2_compare_c50 cA rec a0 MC MS Post PX p_5 V_32 (0 + mc_1) (0 + ms_2))))))) ∧ (¬ (r_7 = 0) → (vX2_compare_c50 cA rec a0 MC MS Post PX p_5 V_8 (0 + mc_1) (0 + ms_2)))))) PX)
set_option maxHeartbeats 4000000 in
set_option maxRecDepth 100000 in
theorem mvX2_compare (l : Launch) {D : va_G} {cA : Nat → ClassId} {A : Nat → Prop} (N : Nat) (rec : RTG) (R0 : ∀ (a0 : Nat) (V : VS) (MC MS : Nat) (Post : Option Nat → VS → Prop) (PX : Nat → Nat → VS → Prop), rec 0 a0 V MC MS Post PX → vx_Met l yX2_or (ws_ yX2_or cX2_or 3 (some (.object "SaidSo$Part"))) (rG N MC MS) (vPc [.ref a0] D cA A V) (va_Qq Post (vB D A) A) (vX D A PX) MC MS A) (R1 : ∀ (a0 : Nat) (V : VS) (MC MS : Nat) (Post : Option Nat → VS → Prop) (PX : Nat → Nat → VS → Prop), rec 1 a0 V MC MS Post PX → vx_Met l yX2_and (ws_ yX2_and cX2_and 3 (some (.object "SaidSo$Part"))) (rG N MC MS) (vPc [.ref a0] D cA A V) (va_Qq Post (vB D A) A) (vX D A PX) MC MS A) (R2 : ∀ (a0 : Nat) (V : VS) (MC MS : Nat) (Post : Option Nat → VS → Prop) (PX : Nat → Nat → VS → Prop), rec 2 a0 V MC MS Post PX → vx_Met l yX2_not (ws_ yX2_not cX2_not 1 (some (.object "SaidSo$Part"))) (rG N MC MS) (vPc [.ref a0] D cA A V) (va_Qq Post (vB D A) A) (vX D A PX) MC MS A) (R3 : ∀ (a0 : Nat) (V : VS) (MC MS : Nat) (Post : Option Nat → VS → Prop) (PX : Nat → Nat → VS → Prop), rec 3 a0 V MC MS Post PX → vx_Met l yX2_compare (ws_ yX2_compare cX2_compare 4 (some (.object "SaidSo$Part"))) (rG N MC MS) (vPc [.ref a0] D cA A V) (va_Qq Post (vB D A) A) (vX D A PX) MC MS A) (R4 : ∀ (a0 : Nat) (V : VS) (MC MS : Nat) (Post : Option Nat → VS → Prop) (PX : Nat → Nat → VS → Prop), rec 4 a0 V MC MS Post PX → vx_Met l yX2_sum (ws_ yX2_sum cX2_sum 3 (some (.object "SaidSo$Part"))) (rG N MC MS) (vPc [.ref a0] D cA A V) (va_Qq Post (vB D A) A) (vX D A PX) MC MS A) (R5 : ∀ (a0 : Nat) (V : VS) (MC MS : Nat) (Post : Option Nat → VS → Prop) (PX : Nat → Nat → VS → Prop), rec 5 a0 V MC MS Post PX → vx_Met l yX2_product (ws_ yX2_product cX2_product 3 (some (.object "SaidSo$Part"))) (rG N MC MS) (vPc [.ref a0] D cA A V) (va_Qq Post (vB D A) A) (vX D A PX) MC MS A) (R6 : ∀ (a0 : Nat) (V : VS) (MC MS : Nat) (Post : Option Nat → VS → Prop) (PX : Nat → Nat → VS → Prop), rec 6 a0 V MC MS Post PX → vx_Met l yX2_one (ws_ yX2_one cX2_one 2 (some (.object "SaidSo$Part"))) (rG N MC MS) (vPc [.ref a0] D cA A V) (va_Qq Post (vB D A) A) (vX D A PX) MC MS A) (a0 : Nat) (V : VS) (MC MS : Nat) (Post : Option Nat → VS → Prop) (PX : Nat → Nat → VS → Prop) (h : vX2_compare cA rec a0 V MC MS Post PX) : vx_Met l yX2_compare (ws_ yX2_compare cX2_compare 4 (some (.object "SaidSo$Part"))) (rG (N + 1) MC MS) (vPc [.ref a0] D cA A V) (va_Qq Post (vB D A) A) (vX D A PX) MC MS A := by
  refine vst (own := RX2) (by decide) rfl (Nat.le_of_ble_eq_true rfl) ?_
  intro p e s m args below meth c ls X hret hV hS hl
  obtain ⟨S, hK, hG, hA, hnm, hlocks, htab⟩ := X
  have hx := S.1
  have hb := S.2.1
  have hk : 0 ≤ MC ∧ 0 ≤ MS := ⟨Nat.zero_le _, Nat.zero_le _⟩
  have hl : lv_has ls 4 [(0, .ref a0)] := hl
  have C55 : ∀ (x1 : Option Nat) (t0 : Int32) (V : VS) (kc ks : Nat) (H : Heap) (locs : List Loc) (ls : Array Slot), HV D A V H → va_S A s.heap H locs → (kc ≤ MC ∧ ks ≤ MS) → lv_has ls 4 [(0, .ref a0), (1, va_rf x1)] → vX2_compare_c55 cA rec a0 MC MS Post PX x1 t0 V kc ks → W p l e (rG (N + 1) MC MS) s m args below meth c H locs kc ks (vx_MQ below (va_Qq Post (vB D A) A) (vX D A PX) args s MC MS A) (F0 m 55 ls [.int t0]) := by
    intro x1 t0 V kc ks H locs ls hV hS hk hl h
    unfold vX2_compare_c55 at h
    refine lv_istore_n (lv' := [(2, .int t0), (0, .ref a0), (1, va_rf x1)]) hx hb dX2_compare_55 rfl hl (by decide) (by cases x1 <;> rfl) (fun ls hl => ?_)
    refine lv_iload_n hx hb dX2_compare_56 rfl (lv_at hl 0 rfl) ?_
    refine lv_if_ne (tgt := 62) hx hb dX2_compare_57 (by decide) (fun c_12 => ?_) (fun c_12 => ?_)
    · replace h := h.2 c_12
      refine lv_aload_n hx hb dX2_compare_62 rfl (lv_at hl 1 rfl) ?_
      obtain ⟨mc_15, ms_16, hc1, hc2, h⟩ := h
      obtain ⟨o_17, e_18, h⟩ := bO_e h
      refine vy_i (vr_VX (As := []) (rest := []) S hK hG hA hV hS e_18 rfl (mvX2_sign2 l a0 V mc_15 ms_16 _ _ h) (cwV 0 S.2.2.2.2 (lw_V q924 q926 qs30 q140 q927) rfl rfl rfl cdX2_sign2 ⟨le_rf (Nat.le_of_ble_eq_true rfl), le_rl (Nat.le_of_ble_eq_true rfl)⟩) rfl hl.1 (Nat.le_of_ble_eq_true rfl) dX2_compare_63 ⟨hc1, hc2⟩) hS (vo_X htab hlocks hc1 hc2) (fun r_13 V_14 H locs h hV hS => ?_)
      have hk : kc + mc_15 ≤ MC ∧ ks + ms_16 ≤ MS := ⟨hc1, hc2⟩
      refine lv_istore_n (lv' := [(3, .int r_13), (2, .int t0), (0, .ref a0), (1, va_rf x1)]) hx hb dX2_compare_66 rfl hl (by decide) rfl (fun ls hl => ?_)
      obtain ⟨hc1, hc2, h⟩ := h
      refine vw_new (ci := 13) (fs := [.null, .int 0, .null]) (C := RX16) (T := TX16) (N := 3) S hK hV hS hA in_X16 tyX16 tyX16_ok q928 q929 q169 rfl (fun j hj => by first | (rcases j with _ | _ | _ | _ | _ | _ | _ | _ | _ | _ | _ | _ | _ | _ | _ | _ | _ | _ | _ | _ | _ | j <;> first | rfl | omega)) hc1 hc2 dX2_compare_67 (fun q_19 V_20 H g1 g2 hV hS => ?_)
      replace h := h q_19 V_20 g1 g2
      have hk : kc + mc_15 + 1 ≤ MC ∧ ks + ms_16 + 3 ≤ MS := ⟨hc1, hc2⟩
      refine lv_dup hx hb dX2_compare_70 rfl ?_
      refine lv_iload_n hx hb dX2_compare_71 rfl (lv_at hl 0 rfl) ?_
      refine lv_aload_nQ hx hb dX2_compare_72 rfl (lv_at hl 3 rfl) ?_
      refine lv_aload_n hx hb dX2_compare_73 rfl (lv_at hl 2 rfl) ?_
      obtain ⟨mc_21, ms_22, hc1, hc2, h⟩ := h
      obtain ⟨o_23, e_24, h⟩ := bO_e h
      refine vy_q (vr_VX (As := []) (rest := [va_rf x1, .int r_13, .ref q_19, .ref q_19]) S hK hG hA hV hS e_24 rfl (R4 _ _ _ _ _ _ h) (cwV 0 S.2.2.2.2 (lw_V q881 q883 qs25 q140 q884) rfl rfl rfl cdX2_sum ⟨le_rg, le_rgl (Nat.le_of_ble_eq_true rfl)⟩) rfl hl.1 (by cases x1 <;> exact Nat.le_of_ble_eq_true rfl) dX2_compare_74 ⟨hc1, hc2⟩) hS (vo_X htab hlocks hc1 hc2) (fun p_25 V_26 H locs h hV hS => ?_)
      have hk : kc + mc_15 + 1 + mc_21 ≤ MC ∧ ks + ms_16 + 3 + ms_22 ≤ MS := ⟨hc1, hc2⟩
      obtain ⟨n_27, z_n_27, h9⟩ := bO_e h
      clear h; subst z_n_27; have h := h9; clear h9
      obtain ⟨n_28, z_n_28, h9⟩ := bO_e h
      clear h; subst z_n_28; have h := h9; clear h9
      refine vk_v (vr_I (As := [.int r_13, .ref n_28, .ref n_27]) (rest := [.ref q_19]) S hK hG hA hV hS (mvX16_init l q_19 r_13 n_28 n_27 V_26 _ h) (cwI 3 S.2.2.2.2 (lw_meth q932) rfl rfl rfl (S.2.2.2.2 _ q169) (S.2.2.2.2 _ q930) (S.2.2.2.2 _ q931) rfl cdX16_init ⟨le_rf (Nat.le_of_ble_eq_true rfl), le_rl (Nat.le_of_ble_eq_true rfl)⟩) rfl hl.1 (Nat.le_of_ble_eq_true rfl) dX2_compare_77 ⟨hk.1, hk.2⟩) hS (fun V_30 H locs h hV hS => ?_)
      exact vx_ret (ve_q (r := some q_19) S hlocks hret (Or.inl ⟨_, rfl⟩) hV hS h hk.1 hk.2 dX2_compare_80)
    · replace h := h.1 c_12
      refine lv_aload_nQ hx hb dX2_compare_60 rfl (lv_at hl 2 rfl) ?_
      exact vx_ret (ve_q (r := x1) S hlocks hret (Or.inl ⟨_, rfl⟩) hV hS h hk.1 hk.2 dX2_compare_61)
  have C50 : ∀ (x1 : Option Nat) (V : VS) (kc ks : Nat) (H : Heap) (locs : List Loc) (ls : Array Slot), HV D A V H → va_S A s.heap H locs → (kc ≤ MC ∧ ks ≤ MS) → lv_has ls 4 [(0, .ref a0), (1, va_rf x1)] → vX2_compare_c50 cA rec a0 MC MS Post PX x1 V kc ks → W p l e (rG (N + 1) MC MS) s m args below meth c H locs kc ks (vx_MQ below (va_Qq Post (vB D A) A) (vX D A PX) args s MC MS A) (F0 m 50 ls []) := by
    intro x1 V kc ks H locs ls hV hS hk hl h
    unfold vX2_compare_c50 at h
    refine lv_iconst hx hb dX2_compare_50 kc_1 ?_
    refine lv_goto (tgt := 55) hx hb dX2_compare_51 (by decide) ?_
    exact C55 _ _ _ _ _ _ _ _ hV hS hk (lv_sub hl [0, 1] rfl) h
  have C54 : ∀ (x1 : Option Nat) (V : VS) (kc ks : Nat) (H : Heap) (locs : List Loc) (ls : Array Slot), HV D A V H → va_S A s.heap H locs → (kc ≤ MC ∧ ks ≤ MS) → lv_has ls 4 [(0, .ref a0), (1, va_rf x1)] → vX2_compare_c54 cA rec a0 MC MS Post PX x1 V kc ks → W p l e (rG (N + 1) MC MS) s m args below meth c H locs kc ks (vx_MQ below (va_Qq Post (vB D A) A) (vX D A PX) args s MC MS A) (F0 m 54 ls []) := by
    intro x1 V kc ks H locs ls hV hS hk hl h
    unfold vX2_compare_c54 at h
    refine lv_iconst hx hb dX2_compare_54 kc_0 ?_
    exact C55 _ _ _ _ _ _ _ _ hV hS hk (lv_sub hl [0, 1] rfl) h
  unfold vX2_compare at h
  refine lv_aload_n hx hb dX2_compare_0 rfl (lv_at hl 0 rfl) ?_
  obtain ⟨mc_1, ms_2, hc1, hc2, h⟩ := h
  obtain ⟨o_3, e_4, h⟩ := bO_e h
  refine vy_q (vr_VX (As := []) (rest := []) S hK hG hA hV hS e_4 rfl (R4 _ _ _ _ _ _ h) (cwV 0 S.2.2.2.2 (lw_V q881 q883 qs25 q140 q884) rfl rfl rfl cdX2_sum ⟨le_rg, le_rgl (Nat.le_of_ble_eq_true rfl)⟩) rfl hl.1 (Nat.le_of_ble_eq_true rfl) dX2_compare_1 ⟨hc1, hc2⟩) hS (vo_X htab hlocks hc1 hc2) (fun p_5 V_6 H locs h hV hS => ?_)
  have hk : 0 + mc_1 ≤ MC ∧ 0 + ms_2 ≤ MS := ⟨hc1, hc2⟩
  refine lv_astore_nQ (r := p_5) (lv' := [(1, va_rf p_5), (0, .ref a0)]) hx hb dX2_compare_4 rfl hl (by decide) rfl (fun ls hl => ?_)
  refine lv_aload_n hx hb dX2_compare_5 rfl (lv_at hl 1 rfl) ?_
  refine lv_bipush hx hb dX2_compare_6 kb_60 ?_
  obtain ⟨o_9, e_10, h⟩ := bO_e h
  refine vk_i (vr_V (As := [.int (60 : Int32)]) (rest := []) S hK hG hA hV hS e_10 rfl (mvX2_isSign l a0 (60 : Int32) V_6 _ h) (cwV 1 S.2.2.2.2 (lw_V q893 q895 qs28 q140 q896) rfl rfl rfl cdX2_isSign ⟨le_rf (Nat.le_of_ble_eq_true rfl), le_rl (Nat.le_of_ble_eq_true rfl)⟩) rfl hl.1 (Nat.le_of_ble_eq_true rfl) dX2_compare_8 ⟨hk.1, hk.2⟩) hS (fun r_7 V_8 H locs h hV hS => ?_)
  refine lv_if_ne (tgt := 50) hx hb dX2_compare_11 (by decide) (fun c_11 => ?_) (fun c_11 => ?_)
  · replace h := h.2 c_11
    exact C50 _ _ _ _ _ _ _ hV hS hk (lv_sub hl [1, 0] rfl) h
  · replace h := h.1 c_11
    refine lv_aload_n hx hb dX2_compare_14 rfl (lv_at hl 1 rfl) ?_
    refine lv_bipush hx hb dX2_compare_15 kb_62 ?_
    obtain ⟨o_33, e_34, h⟩ := bO_e h
    refine vk_i (vr_V (As := [.int (62 : Int32)]) (rest := []) S hK hG hA hV hS e_34 rfl (mvX2_isSign l a0 (62 : Int32) V_8 _ h) (cwV 1 S.2.2.2.2 (lw_V q893 q895 qs28 q140 q896) rfl rfl rfl cdX2_isSign ⟨le_rf (Nat.le_of_ble_eq_true rfl), le_rl (Nat.le_of_ble_eq_true rfl)⟩) rfl hl.1 (Nat.le_of_ble_eq_true rfl) dX2_compare_17 ⟨hk.1, hk.2⟩) hS (fun r_31 V_32 H locs h hV hS => ?_)
    refine lv_if_ne (tgt := 50) hx hb dX2_compare_20 (by decide) (fun c_35 => ?_) (fun c_35 => ?_)
    · replace h := h.2 c_35
      exact C50 _ _ _ _ _ _ _ hV hS hk (lv_sub hl [1, 0] rfl) h
    · replace h := h.1 c_35
      refine lv_aload_n hx hb dX2_compare_23 rfl (lv_at hl 1 rfl) ?_
      refine lv_bipush hx hb dX2_compare_24 kb_61 ?_
      obtain ⟨o_38, e_39, h⟩ := bO_e h
      refine vk_i (vr_V (As := [.int (61 : Int32)]) (rest := []) S hK hG hA hV hS e_39 rfl (mvX2_isSign l a0 (61 : Int32) V_32 _ h) (cwV 1 S.2.2.2.2 (lw_V q893 q895 qs28 q140 q896) rfl rfl rfl cdX2_isSign ⟨le_rf (Nat.le_of_ble_eq_true rfl), le_rl (Nat.le_of_ble_eq_true rfl)⟩) rfl hl.1 (Nat.le_of_ble_eq_true rfl) dX2_compare_26 ⟨hk.1, hk.2⟩) hS (fun r_36 V_37 H locs h hV hS => ?_)
      refine lv_if_ne (tgt := 50) hx hb dX2_compare_29 (by decide) (fun c_40 => ?_) (fun c_40 => ?_)
      · replace h := h.2 c_40
        exact C50 _ _ _ _ _ _ _ hV hS hk (lv_sub hl [1, 0] rfl) h
      · replace h := h.1 c_40
        refine lv_aload_n hx hb dX2_compare_32 rfl (lv_at hl 1 rfl) ?_
        obtain ⟨g_41, e_42, h⟩ := bO_e h
        refine vg_i S hK hV fX2_33 e_42 dX2_compare_33 ?_
        refine lv_iconst hx hb dX2_compare_36 kc_3 ?_
        refine lv_icmp_ne (tgt := 54) hx hb dX2_compare_37 (by decide) (fun c_43 => ?_) (fun c_43 => ?_)
        · replace h := h.2 c_43
          exact C54 _ _ _ _ _ _ _ hV hS hk (lv_sub hl [1, 0] rfl) h
        · replace h := h.1 c_43
          refine lv_aload_n hx hb dX2_compare_40 rfl (lv_at hl 1 rfl) ?_
          obtain ⟨g_44, e_45, h⟩ := bO_e h
          refine vg_i S hK hV fX2_43 e_45 dX2_compare_41 ?_
          refine lv_sipush hx hb dX2_compare_44 ks_256 ?_
          refine lv_icmp_lt (tgt := 54) hx hb dX2_compare_47 (by decide) (fun c_46 => ?_) (fun c_46 => ?_)
          · replace h := h.1 c_46
            exact C54 _ _ _ _ _ _ _ hV hS hk (lv_sub hl [1, 0] rfl) h
          · replace h := h.2 c_46
            exact C50 _ _ _ _ _ _ _ hV hS hk (lv_sub hl [1, 0] rfl) h
def vX2_sum_c23 (cA : Nat → ClassId) (rec : RTG) (a0 : Nat) (MC MS : Nat) (k5 : Option Nat → VS → Nat → Nat → Prop) (Post : Option Nat → VS → Prop) (PX : Nat → Nat → VS → Prop) (x1 : Option Nat) (V : VS) (kc ks : Nat) : Prop := ∃ mc_14 ms_15 : Nat, kc + mc_14 ≤ MC ∧ ks + ms_15 ≤ MS ∧ bO (vO V [2] a0) (fun o_16 => vX2_sign2 cA a0 V mc_14 ms_15 (fun r_12 V_13 => (kc + mc_14 + 1 ≤ MC ∧ ks + ms_15 + 3 ≤ MS ∧ ∀ (q_18 : Nat) (V_19 : VS), V_13 q_18 = none → V_19 = vU V_13 q_18 (.inr (13, [.null, .int 0, .null])) → ∃ mc_20 ms_21 : Nat, kc + mc_14 + 1 + mc_20 ≤ MC ∧ ks + ms_15 + 3 + ms_21 ≤ MS ∧ bO (vO V_19 [2] a0) (fun o_22 => rec 5 a0 V_19 mc_20 ms_21 (fun p_24 V_25 => bO p_24 (fun n_26 => bO x1 (fun n_27 => vX16_init cA q_18 r_12 n_27 n_26 V_25 (fun V_29 => k5 (some q_18) V_29 (kc + mc_14 + 1 + mc_20) (ks + ms_15 + 3 + ms_21))))) PX))) PX)
def vX2_sum_l5 (cA : Nat → ClassId) (rec : RTG) (a0 : Nat) (MC MS : Nat) (Post : Option Nat → VS → Prop) (PX : Nat → Nat → VS → Prop) : Nat → Option Nat → VS → Nat → Nat → Prop
  | 0, _, _, _, _ => False
  | n + 1, x1, V, kc, ks => bO (vO V [2] a0) (fun o_9 => vX2_isSign cA a0 (43 : Int32) V (fun r_7 V_8 => (r_7 = 0 → (bO (vO V_8 [2] a0) (fun o_32 => vX2_isSign cA a0 (45 : Int32) V_8 (fun r_30 V_31 => (r_30 = 0 → (Post (x1) V_31)) ∧ (¬ (r_30 = 0) → (vX2_sum_c23 cA rec a0 MC MS (vX2_sum_l5 cA rec a0 MC MS Post PX n) Post PX x1 V_31 kc ks)))))) ∧ (¬ (r_7 = 0) → (vX2_sum_c23 cA rec a0 MC MS (vX2_sum_l5 cA rec a0 MC MS Post PX n) Post PX x1 V_8 kc ks))))
def vX2_sum (cA : Nat → ClassId) (rec : RTG) (a0 : Nat) (V : VS) (MC MS : Nat) (Post : Option Nat → VS → Prop) (PX : Nat → Nat → VS → Prop) : Prop := ∃ mc_1 ms_2 : Nat, 0 + mc_1 ≤ MC ∧ 0 + ms_2 ≤ MS ∧ bO (vO V [2] a0) (fun o_3 => rec 5 a0 V mc_1 ms_2 (fun p_5 V_6 => ∃ f, vX2_sum_l5 cA rec a0 MC MS Post PX f p_5 V_6 (0 + mc_1) (0 + ms_2)) PX)
set_option maxHeartbeats 4000000 in
set_option maxRecDepth 100000 in
theorem mvX2_sum (l : Launch) {D : va_G} {cA : Nat → ClassId} {A : Nat → Prop} (N : Nat) (rec : RTG) (R0 : ∀ (a0 : Nat) (V : VS) (MC MS : Nat) (Post : Option Nat → VS → Prop) (PX : Nat → Nat → VS → Prop), rec 0 a0 V MC MS Post PX → vx_Met l yX2_or (ws_ yX2_or cX2_or 3 (some (.object "SaidSo$Part"))) (rG N MC MS) (vPc [.ref a0] D cA A V) (va_Qq Post (vB D A) A) (vX D A PX) MC MS A) (R1 : ∀ (a0 : Nat) (V : VS) (MC MS : Nat) (Post : Option Nat → VS → Prop) (PX : Nat → Nat → VS → Prop), rec 1 a0 V MC MS Post PX → vx_Met l yX2_and (ws_ yX2_and cX2_and 3 (some (.object "SaidSo$Part"))) (rG N MC MS) (vPc [.ref a0] D cA A V) (va_Qq Post (vB D A) A) (vX D A PX) MC MS A) (R2 : ∀ (a0 : Nat) (V : VS) (MC MS : Nat) (Post : Option Nat → VS → Prop) (PX : Nat → Nat → VS → Prop), rec 2 a0 V MC MS Post PX → vx_Met l yX2_not (ws_ yX2_not cX2_not 1 (some (.object "SaidSo$Part"))) (rG N MC MS) (vPc [.ref a0] D cA A V) (va_Qq Post (vB D A) A) (vX D A PX) MC MS A) (R3 : ∀ (a0 : Nat) (V : VS) (MC MS : Nat) (Post : Option Nat → VS → Prop) (PX : Nat → Nat → VS → Prop), rec 3 a0 V MC MS Post PX → vx_Met l yX2_compare (ws_ yX2_compare cX2_compare 4 (some (.object "SaidSo$Part"))) (rG N MC MS) (vPc [.ref a0] D cA A V) (va_Qq Post (vB D A) A) (vX D A PX) MC MS A) (R4 : ∀ (a0 : Nat) (V : VS) (MC MS : Nat) (Post : Option Nat → VS → Prop) (PX : Nat → Nat → VS → Prop), rec 4 a0 V MC MS Post PX → vx_Met l yX2_sum (ws_ yX2_sum cX2_sum 3 (some (.object "SaidSo$Part"))) (rG N MC MS) (vPc [.ref a0] D cA A V) (va_Qq Post (vB D A) A) (vX D A PX) MC MS A) (R5 : ∀ (a0 : Nat) (V : VS) (MC MS : Nat) (Post : Option Nat → VS → Prop) (PX : Nat → Nat → VS → Prop), rec 5 a0 V MC MS Post PX → vx_Met l yX2_product (ws_ yX2_product cX2_product 3 (some (.object "SaidSo$Part"))) (rG N MC MS) (vPc [.ref a0] D cA A V) (va_Qq Post (vB D A) A) (vX D A PX) MC MS A) (R6 : ∀ (a0 : Nat) (V : VS) (MC MS : Nat) (Post : Option Nat → VS → Prop) (PX : Nat → Nat → VS → Prop), rec 6 a0 V MC MS Post PX → vx_Met l yX2_one (ws_ yX2_one cX2_one 2 (some (.object "SaidSo$Part"))) (rG N MC MS) (vPc [.ref a0] D cA A V) (va_Qq Post (vB D A) A) (vX D A PX) MC MS A) (a0 : Nat) (V : VS) (MC MS : Nat) (Post : Option Nat → VS → Prop) (PX : Nat → Nat → VS → Prop) (h : vX2_sum cA rec a0 V MC MS Post PX) : vx_Met l yX2_sum (ws_ yX2_sum cX2_sum 3 (some (.object "SaidSo$Part"))) (rG (N + 1) MC MS) (vPc [.ref a0] D cA A V) (va_Qq Post (vB D A) A) (vX D A PX) MC MS A := by
  refine vst (own := RX2) (by decide) rfl (Nat.le_of_ble_eq_true rfl) ?_
  intro p e s m args below meth c ls X hret hV hS hl
  obtain ⟨S, hK, hG, hA, hnm, hlocks, htab⟩ := X
  have hx := S.1
  have hb := S.2.1
  have hk : 0 ≤ MC ∧ 0 ≤ MS := ⟨Nat.zero_le _, Nat.zero_le _⟩
  have hl : lv_has ls 3 [(0, .ref a0)] := hl
  have C23 : ∀ (k5 : Option Nat → VS → Nat → Nat → Prop) (K5 : (∀ (x1 : Option Nat) (V : VS) (kc ks : Nat) (H : Heap) (locs : List Loc) (ls : Array Slot), HV D A V H → va_S A s.heap H locs → (kc ≤ MC ∧ ks ≤ MS) → lv_has ls 3 [(0, .ref a0), (1, va_rf x1)] → k5 x1 V kc ks → W p l e (rG (N + 1) MC MS) s m args below meth c H locs kc ks (vx_MQ below (va_Qq Post (vB D A) A) (vX D A PX) args s MC MS A) (F0 m 5 ls []))), ∀ (x1 : Option Nat) (V : VS) (kc ks : Nat) (H : Heap) (locs : List Loc) (ls : Array Slot), HV D A V H → va_S A s.heap H locs → (kc ≤ MC ∧ ks ≤ MS) → lv_has ls 3 [(0, .ref a0), (1, va_rf x1)] → vX2_sum_c23 cA rec a0 MC MS k5 Post PX x1 V kc ks → W p l e (rG (N + 1) MC MS) s m args below meth c H locs kc ks (vx_MQ below (va_Qq Post (vB D A) A) (vX D A PX) args s MC MS A) (F0 m 23 ls []) := by
    intro k5 K5
    intro x1 V kc ks H locs ls hV hS hk hl h
    unfold vX2_sum_c23 at h
    refine lv_aload_n hx hb dX2_sum_23 rfl (lv_at hl 0 rfl) ?_
    obtain ⟨mc_14, ms_15, hc1, hc2, h⟩ := h
    obtain ⟨o_16, e_17, h⟩ := bO_e h
    refine vy_i (vr_VX (As := []) (rest := []) S hK hG hA hV hS e_17 rfl (mvX2_sign2 l a0 V mc_14 ms_15 _ _ h) (cwV 0 S.2.2.2.2 (lw_V q924 q926 qs30 q140 q927) rfl rfl rfl cdX2_sign2 ⟨le_rf (Nat.le_of_ble_eq_true rfl), le_rl (Nat.le_of_ble_eq_true rfl)⟩) rfl hl.1 (Nat.le_of_ble_eq_true rfl) dX2_sum_24 ⟨hc1, hc2⟩) hS (vo_X htab hlocks hc1 hc2) (fun r_12 V_13 H locs h hV hS => ?_)
    have hk : kc + mc_14 ≤ MC ∧ ks + ms_15 ≤ MS := ⟨hc1, hc2⟩
    refine lv_istore_n (lv' := [(2, .int r_12), (0, .ref a0), (1, va_rf x1)]) hx hb dX2_sum_27 rfl hl (by decide) (by cases x1 <;> rfl) (fun ls hl => ?_)
    obtain ⟨hc1, hc2, h⟩ := h
    refine vw_new (ci := 13) (fs := [.null, .int 0, .null]) (C := RX16) (T := TX16) (N := 3) S hK hV hS hA in_X16 tyX16 tyX16_ok q928 q929 q169 rfl (fun j hj => by first | (rcases j with _ | _ | _ | _ | _ | _ | _ | _ | _ | _ | _ | _ | _ | _ | _ | _ | _ | _ | _ | _ | _ | j <;> first | rfl | omega)) hc1 hc2 dX2_sum_28 (fun q_18 V_19 H g1 g2 hV hS => ?_)
    replace h := h q_18 V_19 g1 g2
    have hk : kc + mc_14 + 1 ≤ MC ∧ ks + ms_15 + 3 ≤ MS := ⟨hc1, hc2⟩
    refine lv_dup hx hb dX2_sum_31 rfl ?_
    refine lv_iload_n hx hb dX2_sum_32 rfl (lv_at hl 0 rfl) ?_
    refine lv_aload_nQ hx hb dX2_sum_33 rfl (lv_at hl 2 rfl) ?_
    refine lv_aload_n hx hb dX2_sum_34 rfl (lv_at hl 1 rfl) ?_
    obtain ⟨mc_20, ms_21, hc1, hc2, h⟩ := h
    obtain ⟨o_22, e_23, h⟩ := bO_e h
    refine vy_q (vr_VX (As := []) (rest := [va_rf x1, .int r_12, .ref q_18, .ref q_18]) S hK hG hA hV hS e_23 rfl (R5 _ _ _ _ _ _ h) (cwV 0 S.2.2.2.2 (lw_V q885 q887 qs26 q140 q888) rfl rfl rfl cdX2_product ⟨le_rg, le_rgl (Nat.le_of_ble_eq_true rfl)⟩) rfl hl.1 (by cases x1 <;> exact Nat.le_of_ble_eq_true rfl) dX2_sum_35 ⟨hc1, hc2⟩) hS (vo_X htab hlocks hc1 hc2) (fun p_24 V_25 H locs h hV hS => ?_)
    have hk : kc + mc_14 + 1 + mc_20 ≤ MC ∧ ks + ms_15 + 3 + ms_21 ≤ MS := ⟨hc1, hc2⟩
    obtain ⟨n_26, z_n_26, h9⟩ := bO_e h
    clear h; subst z_n_26; have h := h9; clear h9
    obtain ⟨n_27, z_n_27, h9⟩ := bO_e h
    clear h; subst z_n_27; have h := h9; clear h9
    refine vk_v (vr_I (As := [.int r_12, .ref n_27, .ref n_26]) (rest := [.ref q_18]) S hK hG hA hV hS (mvX16_init l q_18 r_12 n_27 n_26 V_25 _ h) (cwI 3 S.2.2.2.2 (lw_meth q932) rfl rfl rfl (S.2.2.2.2 _ q169) (S.2.2.2.2 _ q930) (S.2.2.2.2 _ q931) rfl cdX16_init ⟨le_rf (Nat.le_of_ble_eq_true rfl), le_rl (Nat.le_of_ble_eq_true rfl)⟩) rfl hl.1 (Nat.le_of_ble_eq_true rfl) dX2_sum_38 ⟨hk.1, hk.2⟩) hS (fun V_29 H locs h hV hS => ?_)
    refine lv_astore_n (lv' := [(1, .ref q_18), (2, .int r_12), (0, .ref a0)]) hx hb dX2_sum_41 rfl hl (by decide) rfl (fun ls hl => ?_)
    refine lv_goto (tgt := 5) hx hb dX2_sum_42 (by decide) ?_
    exact K5 _ _ _ _ _ _ _ hV hS hk (lv_sub hl [2, 0] rfl) h
  have L5 : ∀ (n : Nat) (x1 : Option Nat) (V : VS) (kc ks : Nat) (H : Heap) (locs : List Loc) (ls : Array Slot), HV D A V H → va_S A s.heap H locs → (kc ≤ MC ∧ ks ≤ MS) → lv_has ls 3 [(0, .ref a0), (1, va_rf x1)] → vX2_sum_l5 cA rec a0 MC MS Post PX n x1 V kc ks → W p l e (rG (N + 1) MC MS) s m args below meth c H locs kc ks (vx_MQ below (va_Qq Post (vB D A) A) (vX D A PX) args s MC MS A) (F0 m 5 ls []) := by
    intro n
    induction n with
    | zero => intro x1 V kc ks H locs ls hV hS hk hl h; rw [vX2_sum_l5] at h; exact h.elim
    | succ n ih =>
      intro x1 V kc ks H locs ls hV hS hk hl h
      rw [vX2_sum_l5] at h
      refine lv_aload_n hx hb dX2_sum_5 rfl (lv_at hl 0 rfl) ?_
      refine lv_bipush hx hb dX2_sum_6 kb_43 ?_
      obtain ⟨o_9, e_10, h⟩ := bO_e h
      refine vk_i (vr_V (As := [.int (43 : Int32)]) (rest := []) S hK hG hA hV hS e_10 rfl (mvX2_isSign l a0 (43 : Int32) V _ h) (cwV 1 S.2.2.2.2 (lw_V q893 q895 qs28 q140 q896) rfl rfl rfl cdX2_isSign ⟨le_rf (Nat.le_of_ble_eq_true rfl), le_rl (Nat.le_of_ble_eq_true rfl)⟩) rfl hl.1 (Nat.le_of_ble_eq_true rfl) dX2_sum_8 ⟨hk.1, hk.2⟩) hS (fun r_7 V_8 H locs h hV hS => ?_)
      refine lv_if_ne (tgt := 23) hx hb dX2_sum_11 (by decide) (fun c_11 => ?_) (fun c_11 => ?_)
      · replace h := h.2 c_11
        exact C23 _ ih _ _ _ _ _ _ _ hV hS hk (lv_sub hl [0, 1] rfl) h
      · replace h := h.1 c_11
        refine lv_aload_n hx hb dX2_sum_14 rfl (lv_at hl 0 rfl) ?_
        refine lv_bipush hx hb dX2_sum_15 kb_45 ?_
        obtain ⟨o_32, e_33, h⟩ := bO_e h
        refine vk_i (vr_V (As := [.int (45 : Int32)]) (rest := []) S hK hG hA hV hS e_33 rfl (mvX2_isSign l a0 (45 : Int32) V_8 _ h) (cwV 1 S.2.2.2.2 (lw_V q893 q895 qs28 q140 q896) rfl rfl rfl cdX2_isSign ⟨le_rf (Nat.le_of_ble_eq_true rfl), le_rl (Nat.le_of_ble_eq_true rfl)⟩) rfl hl.1 (Nat.le_of_ble_eq_true rfl) dX2_sum_17 ⟨hk.1, hk.2⟩) hS (fun r_30 V_31 H locs h hV hS => ?_)
        refine lv_if_eq (tgt := 45) hx hb dX2_sum_20 (by decide) (fun c_34 => ?_) (fun c_34 => ?_)
        · replace h := h.1 c_34
          refine lv_aload_nQ hx hb dX2_sum_45 rfl (lv_at hl 1 rfl) ?_
          exact vx_ret (ve_q (r := x1) S hlocks hret (Or.inl ⟨_, rfl⟩) hV hS h hk.1 hk.2 dX2_sum_46)
        · replace h := h.2 c_34
          exact C23 _ ih _ _ _ _ _ _ _ hV hS hk (lv_sub hl [0, 1] rfl) h
  unfold vX2_sum at h
  refine lv_aload_n hx hb dX2_sum_0 rfl (lv_at hl 0 rfl) ?_
  obtain ⟨mc_1, ms_2, hc1, hc2, h⟩ := h
  obtain ⟨o_3, e_4, h⟩ := bO_e h
  refine vy_q (vr_VX (As := []) (rest := []) S hK hG hA hV hS e_4 rfl (R5 _ _ _ _ _ _ h) (cwV 0 S.2.2.2.2 (lw_V q885 q887 qs26 q140 q888) rfl rfl rfl cdX2_product ⟨le_rg, le_rgl (Nat.le_of_ble_eq_true rfl)⟩) rfl hl.1 (Nat.le_of_ble_eq_true rfl) dX2_sum_1 ⟨hc1, hc2⟩) hS (vo_X htab hlocks hc1 hc2) (fun p_5 V_6 H locs h hV hS => ?_)
  have hk : 0 + mc_1 ≤ MC ∧ 0 + ms_2 ≤ MS := ⟨hc1, hc2⟩
  refine lv_astore_nQ (r := p_5) (lv' := [(1, va_rf p_5), (0, .ref a0)]) hx hb dX2_sum_4 rfl hl (by decide) rfl (fun ls hl => ?_)
  obtain ⟨f, h⟩ := h
  exact L5 f _ _ _ _ _ _ _ hV hS hk (lv_sub hl [1, 0] rfl) h
def vX2_product_c23 (cA : Nat → ClassId) (rec : RTG) (a0 : Nat) (MC MS : Nat) (k5 : Option Nat → VS → Nat → Nat → Prop) (Post : Option Nat → VS → Prop) (PX : Nat → Nat → VS → Prop) (x1 : Option Nat) (V : VS) (kc ks : Nat) : Prop := ∃ mc_14 ms_15 : Nat, kc + mc_14 ≤ MC ∧ ks + ms_15 ≤ MS ∧ bO (vO V [2] a0) (fun o_16 => vX2_sign2 cA a0 V mc_14 ms_15 (fun r_12 V_13 => (kc + mc_14 + 1 ≤ MC ∧ ks + ms_15 + 3 ≤ MS ∧ ∀ (q_18 : Nat) (V_19 : VS), V_13 q_18 = none → V_19 = vU V_13 q_18 (.inr (13, [.null, .int 0, .null])) → ∃ mc_20 ms_21 : Nat, kc + mc_14 + 1 + mc_20 ≤ MC ∧ ks + ms_15 + 3 + ms_21 ≤ MS ∧ bO (vO V_19 [2] a0) (fun o_22 => rec 6 a0 V_19 mc_20 ms_21 (fun p_24 V_25 => bO p_24 (fun n_26 => bO x1 (fun n_27 => vX16_init cA q_18 r_12 n_27 n_26 V_25 (fun V_29 => k5 (some q_18) V_29 (kc + mc_14 + 1 + mc_20) (ks + ms_15 + 3 + ms_21))))) PX))) PX)
def vX2_product_l5 (cA : Nat → ClassId) (rec : RTG) (a0 : Nat) (MC MS : Nat) (Post : Option Nat → VS → Prop) (PX : Nat → Nat → VS → Prop) : Nat → Option Nat → VS → Nat → Nat → Prop
  | 0, _, _, _, _ => False
  | n + 1, x1, V, kc, ks => bO (vO V [2] a0) (fun o_9 => vX2_isSign cA a0 (42 : Int32) V (fun r_7 V_8 => (r_7 = 0 → (bO (vO V_8 [2] a0) (fun o_32 => vX2_isSign cA a0 (47 : Int32) V_8 (fun r_30 V_31 => (r_30 = 0 → (Post (x1) V_31)) ∧ (¬ (r_30 = 0) → (vX2_product_c23 cA rec a0 MC MS (vX2_product_l5 cA rec a0 MC MS Post PX n) Post PX x1 V_31 kc ks)))))) ∧ (¬ (r_7 = 0) → (vX2_product_c23 cA rec a0 MC MS (vX2_product_l5 cA rec a0 MC MS Post PX n) Post PX x1 V_8 kc ks))))
def vX2_product (cA : Nat → ClassId) (rec : RTG) (a0 : Nat) (V : VS) (MC MS : Nat) (Post : Option Nat → VS → Prop) (PX : Nat → Nat → VS → Prop) : Prop := ∃ mc_1 ms_2 : Nat, 0 + mc_1 ≤ MC ∧ 0 + ms_2 ≤ MS ∧ bO (vO V [2] a0) (fun o_3 => rec 6 a0 V mc_1 ms_2 (fun p_5 V_6 => ∃ f, vX2_product_l5 cA rec a0 MC MS Post PX f p_5 V_6 (0 + mc_1) (0 + ms_2)) PX)
set_option maxHeartbeats 4000000 in
set_option maxRecDepth 100000 in
theorem mvX2_product (l : Launch) {D : va_G} {cA : Nat → ClassId} {A : Nat → Prop} (N : Nat) (rec : RTG) (R0 : ∀ (a0 : Nat) (V : VS) (MC MS : Nat) (Post : Option Nat → VS → Prop) (PX : Nat → Nat → VS → Prop), rec 0 a0 V MC MS Post PX → vx_Met l yX2_or (ws_ yX2_or cX2_or 3 (some (.object "SaidSo$Part"))) (rG N MC MS) (vPc [.ref a0] D cA A V) (va_Qq Post (vB D A) A) (vX D A PX) MC MS A) (R1 : ∀ (a0 : Nat) (V : VS) (MC MS : Nat) (Post : Option Nat → VS → Prop) (PX : Nat → Nat → VS → Prop), rec 1 a0 V MC MS Post PX → vx_Met l yX2_and (ws_ yX2_and cX2_and 3 (some (.object "SaidSo$Part"))) (rG N MC MS) (vPc [.ref a0] D cA A V) (va_Qq Post (vB D A) A) (vX D A PX) MC MS A) (R2 : ∀ (a0 : Nat) (V : VS) (MC MS : Nat) (Post : Option Nat → VS → Prop) (PX : Nat → Nat → VS → Prop), rec 2 a0 V MC MS Post PX → vx_Met l yX2_not (ws_ yX2_not cX2_not 1 (some (.object "SaidSo$Part"))) (rG N MC MS) (vPc [.ref a0] D cA A V) (va_Qq Post (vB D A) A) (vX D A PX) MC MS A) (R3 : ∀ (a0 : Nat) (V : VS) (MC MS : Nat) (Post : Option Nat → VS → Prop) (PX : Nat → Nat → VS → Prop), rec 3 a0 V MC MS Post PX → vx_Met l yX2_compare (ws_ yX2_compare cX2_compare 4 (some (.object "SaidSo$Part"))) (rG N MC MS) (vPc [.ref a0] D cA A V) (va_Qq Post (vB D A) A) (vX D A PX) MC MS A) (R4 : ∀ (a0 : Nat) (V : VS) (MC MS : Nat) (Post : Option Nat → VS → Prop) (PX : Nat → Nat → VS → Prop), rec 4 a0 V MC MS Post PX → vx_Met l yX2_sum (ws_ yX2_sum cX2_sum 3 (some (.object "SaidSo$Part"))) (rG N MC MS) (vPc [.ref a0] D cA A V) (va_Qq Post (vB D A) A) (vX D A PX) MC MS A) (R5 : ∀ (a0 : Nat) (V : VS) (MC MS : Nat) (Post : Option Nat → VS → Prop) (PX : Nat → Nat → VS → Prop), rec 5 a0 V MC MS Post PX → vx_Met l yX2_product (ws_ yX2_product cX2_product 3 (some (.object "SaidSo$Part"))) (rG N MC MS) (vPc [.ref a0] D cA A V) (va_Qq Post (vB D A) A) (vX D A PX) MC MS A) (R6 : ∀ (a0 : Nat) (V : VS) (MC MS : Nat) (Post : Option Nat → VS → Prop) (PX : Nat → Nat → VS → Prop), rec 6 a0 V MC MS Post PX → vx_Met l yX2_one (ws_ yX2_one cX2_one 2 (some (.object "SaidSo$Part"))) (rG N MC MS) (vPc [.ref a0] D cA A V) (va_Qq Post (vB D A) A) (vX D A PX) MC MS A) (a0 : Nat) (V : VS) (MC MS : Nat) (Post : Option Nat → VS → Prop) (PX : Nat → Nat → VS → Prop) (h : vX2_product cA rec a0 V MC MS Post PX) : vx_Met l yX2_product (ws_ yX2_product cX2_product 3 (some (.object "SaidSo$Part"))) (rG (N + 1) MC MS) (vPc [.ref a0] D cA A V) (va_Qq Post (vB D A) A) (vX D A PX) MC MS A := by
  refine vst (own := RX2) (by decide) rfl (Nat.le_of_ble_eq_true rfl) ?_
  intro p e s m args below meth c ls X hret hV hS hl
  obtain ⟨S, hK, hG, hA, hnm, hlocks, htab⟩ := X
  have hx := S.1
  have hb := S.2.1
  have hk : 0 ≤ MC ∧ 0 ≤ MS := ⟨Nat.zero_le _, Nat.zero_le _⟩
  have hl : lv_has ls 3 [(0, .ref a0)] := hl
  have C23 : ∀ (k5 : Option Nat → VS → Nat → Nat → Prop) (K5 : (∀ (x1 : Option Nat) (V : VS) (kc ks : Nat) (H : Heap) (locs : List Loc) (ls : Array Slot), HV D A V H → va_S A s.heap H locs → (kc ≤ MC ∧ ks ≤ MS) → lv_has ls 3 [(0, .ref a0), (1, va_rf x1)] → k5 x1 V kc ks → W p l e (rG (N + 1) MC MS) s m args below meth c H locs kc ks (vx_MQ below (va_Qq Post (vB D A) A) (vX D A PX) args s MC MS A) (F0 m 5 ls []))), ∀ (x1 : Option Nat) (V : VS) (kc ks : Nat) (H : Heap) (locs : List Loc) (ls : Array Slot), HV D A V H → va_S A s.heap H locs → (kc ≤ MC ∧ ks ≤ MS) → lv_has ls 3 [(0, .ref a0), (1, va_rf x1)] → vX2_product_c23 cA rec a0 MC MS k5 Post PX x1 V kc ks → W p l e (rG (N + 1) MC MS) s m args below meth c H locs kc ks (vx_MQ below (va_Qq Post (vB D A) A) (vX D A PX) args s MC MS A) (F0 m 23 ls []) := by
    intro k5 K5
    intro x1 V kc ks H locs ls hV hS hk hl h
    unfold vX2_product_c23 at h
    refine lv_aload_n hx hb dX2_product_23 rfl (lv_at hl 0 rfl) ?_
    obtain ⟨mc_14, ms_15, hc1, hc2, h⟩ := h
    obtain ⟨o_16, e_17, h⟩ := bO_e h
    refine vy_i (vr_VX (As := []) (rest := []) S hK hG hA hV hS e_17 rfl (mvX2_sign2 l a0 V mc_14 ms_15 _ _ h) (cwV 0 S.2.2.2.2 (lw_V q924 q926 qs30 q140 q927) rfl rfl rfl cdX2_sign2 ⟨le_rf (Nat.le_of_ble_eq_true rfl), le_rl (Nat.le_of_ble_eq_true rfl)⟩) rfl hl.1 (Nat.le_of_ble_eq_true rfl) dX2_product_24 ⟨hc1, hc2⟩) hS (vo_X htab hlocks hc1 hc2) (fun r_12 V_13 H locs h hV hS => ?_)
    have hk : kc + mc_14 ≤ MC ∧ ks + ms_15 ≤ MS := ⟨hc1, hc2⟩
    refine lv_istore_n (lv' := [(2, .int r_12), (0, .ref a0), (1, va_rf x1)]) hx hb dX2_product_27 rfl hl (by decide) (by cases x1 <;> rfl) (fun ls hl => ?_)
    obtain ⟨hc1, hc2, h⟩ := h
    refine vw_new (ci := 13) (fs := [.null, .int 0, .null]) (C := RX16) (T := TX16) (N := 3) S hK hV hS hA in_X16 tyX16 tyX16_ok q928 q929 q169 rfl (fun j hj => by first | (rcases j with _ | _ | _ | _ | _ | _ | _ | _ | _ | _ | _ | _ | _ | _ | _ | _ | _ | _ | _ | _ | _ | j <;> first | rfl | omega)) hc1 hc2 dX2_product_28 (fun q_18 V_19 H g1 g2 hV hS => ?_)
    replace h := h q_18 V_19 g1 g2
    have hk : kc + mc_14 + 1 ≤ MC ∧ ks + ms_15 + 3 ≤ MS := ⟨hc1, hc2⟩
    refine lv_dup hx hb dX2_product_31 rfl ?_
    refine lv_iload_n hx hb dX2_product_32 rfl (lv_at hl 0 rfl) ?_
    refine lv_aload_nQ hx hb dX2_product_33 rfl (lv_at hl 2 rfl) ?_
    refine lv_aload_n hx hb dX2_product_34 rfl (lv_at hl 1 rfl) ?_
    obtain ⟨mc_20, ms_21, hc1, hc2, h⟩ := h
    obtain ⟨o_22, e_23, h⟩ := bO_e h
    refine vy_q (vr_VX (As := []) (rest := [va_rf x1, .int r_12, .ref q_18, .ref q_18]) S hK hG hA hV hS e_23 rfl (R6 _ _ _ _ _ _ h) (cwV 0 S.2.2.2.2 (lw_V q889 q891 qs27 q140 q892) rfl rfl rfl cdX2_one ⟨le_rg, le_rgl (Nat.le_of_ble_eq_true rfl)⟩) rfl hl.1 (by cases x1 <;> exact Nat.le_of_ble_eq_true rfl) dX2_product_35 ⟨hc1, hc2⟩) hS (vo_X htab hlocks hc1 hc2) (fun p_24 V_25 H locs h hV hS => ?_)
    have hk : kc + mc_14 + 1 + mc_20 ≤ MC ∧ ks + ms_15 + 3 + ms_21 ≤ MS := ⟨hc1, hc2⟩
    obtain ⟨n_26, z_n_26, h9⟩ := bO_e h
    clear h; subst z_n_26; have h := h9; clear h9
    obtain ⟨n_27, z_n_27, h9⟩ := bO_e h
    clear h; subst z_n_27; have h := h9; clear h9
    refine vk_v (vr_I (As := [.int r_12, .ref n_27, .ref n_26]) (rest := [.ref q_18]) S hK hG hA hV hS (mvX16_init l q_18 r_12 n_27 n_26 V_25 _ h) (cwI 3 S.2.2.2.2 (lw_meth q932) rfl rfl rfl (S.2.2.2.2 _ q169) (S.2.2.2.2 _ q930) (S.2.2.2.2 _ q931) rfl cdX16_init ⟨le_rf (Nat.le_of_ble_eq_true rfl), le_rl (Nat.le_of_ble_eq_true rfl)⟩) rfl hl.1 (Nat.le_of_ble_eq_true rfl) dX2_product_38 ⟨hk.1, hk.2⟩) hS (fun V_29 H locs h hV hS => ?_)
    refine lv_astore_n (lv' := [(1, .ref q_18), (2, .int r_12), (0, .ref a0)]) hx hb dX2_product_41 rfl hl (by decide) rfl (fun ls hl => ?_)
    refine lv_goto (tgt := 5) hx hb dX2_product_42 (by decide) ?_
    exact K5 _ _ _ _ _ _ _ hV hS hk (lv_sub hl [2, 0] rfl) h
  have L5 : ∀ (n : Nat) (x1 : Option Nat) (V : VS) (kc ks : Nat) (H : Heap) (locs : List Loc) (ls : Array Slot), HV D A V H → va_S A s.heap H locs → (kc ≤ MC ∧ ks ≤ MS) → lv_has ls 3 [(0, .ref a0), (1, va_rf x1)] → vX2_product_l5 cA rec a0 MC MS Post PX n x1 V kc ks → W p l e (rG (N + 1) MC MS) s m args below meth c H locs kc ks (vx_MQ below (va_Qq Post (vB D A) A) (vX D A PX) args s MC MS A) (F0 m 5 ls []) := by
    intro n
    induction n with
    | zero => intro x1 V kc ks H locs ls hV hS hk hl h; rw [vX2_product_l5] at h; exact h.elim
    | succ n ih =>
      intro x1 V kc ks H locs ls hV hS hk hl h
      rw [vX2_product_l5] at h
      refine lv_aload_n hx hb dX2_product_5 rfl (lv_at hl 0 rfl) ?_
      refine lv_bipush hx hb dX2_product_6 kb_42 ?_
      obtain ⟨o_9, e_10, h⟩ := bO_e h
      refine vk_i (vr_V (As := [.int (42 : Int32)]) (rest := []) S hK hG hA hV hS e_10 rfl (mvX2_isSign l a0 (42 : Int32) V _ h) (cwV 1 S.2.2.2.2 (lw_V q893 q895 qs28 q140 q896) rfl rfl rfl cdX2_isSign ⟨le_rf (Nat.le_of_ble_eq_true rfl), le_rl (Nat.le_of_ble_eq_true rfl)⟩) rfl hl.1 (Nat.le_of_ble_eq_true rfl) dX2_product_8 ⟨hk.1, hk.2⟩) hS (fun r_7 V_8 H locs h hV hS => ?_)
      refine lv_if_ne (tgt := 23) hx hb dX2_product_11 (by decide) (fun c_11 => ?_) (fun c_11 => ?_)
      · replace h := h.2 c_11
        exact C23 _ ih _ _ _ _ _ _ _ hV hS hk (lv_sub hl [0, 1] rfl) h
      · replace h := h.1 c_11
        refine lv_aload_n hx hb dX2_product_14 rfl (lv_at hl 0 rfl) ?_
        refine lv_bipush hx hb dX2_product_15 kb_47 ?_
        obtain ⟨o_32, e_33, h⟩ := bO_e h
        refine vk_i (vr_V (As := [.int (47 : Int32)]) (rest := []) S hK hG hA hV hS e_33 rfl (mvX2_isSign l a0 (47 : Int32) V_8 _ h) (cwV 1 S.2.2.2.2 (lw_V q893 q895 qs28 q140 q896) rfl rfl rfl cdX2_isSign ⟨le_rf (Nat.le_of_ble_eq_true rfl), le_rl (Nat.le_of_ble_eq_true rfl)⟩) rfl hl.1 (Nat.le_of_ble_eq_true rfl) dX2_product_17 ⟨hk.1, hk.2⟩) hS (fun r_30 V_31 H locs h hV hS => ?_)
        refine lv_if_eq (tgt := 45) hx hb dX2_product_20 (by decide) (fun c_34 => ?_) (fun c_34 => ?_)
        · replace h := h.1 c_34
          refine lv_aload_nQ hx hb dX2_product_45 rfl (lv_at hl 1 rfl) ?_
          exact vx_ret (ve_q (r := x1) S hlocks hret (Or.inl ⟨_, rfl⟩) hV hS h hk.1 hk.2 dX2_product_46)
        · replace h := h.2 c_34
          exact C23 _ ih _ _ _ _ _ _ _ hV hS hk (lv_sub hl [0, 1] rfl) h
  unfold vX2_product at h
  refine lv_aload_n hx hb dX2_product_0 rfl (lv_at hl 0 rfl) ?_
  obtain ⟨mc_1, ms_2, hc1, hc2, h⟩ := h
  obtain ⟨o_3, e_4, h⟩ := bO_e h
  refine vy_q (vr_VX (As := []) (rest := []) S hK hG hA hV hS e_4 rfl (R6 _ _ _ _ _ _ h) (cwV 0 S.2.2.2.2 (lw_V q889 q891 qs27 q140 q892) rfl rfl rfl cdX2_one ⟨le_rg, le_rgl (Nat.le_of_ble_eq_true rfl)⟩) rfl hl.1 (Nat.le_of_ble_eq_true rfl) dX2_product_1 ⟨hc1, hc2⟩) hS (vo_X htab hlocks hc1 hc2) (fun p_5 V_6 H locs h hV hS => ?_)
  have hk : 0 + mc_1 ≤ MC ∧ 0 + ms_2 ≤ MS := ⟨hc1, hc2⟩
  refine lv_astore_nQ (r := p_5) (lv' := [(1, va_rf p_5), (0, .ref a0)]) hx hb dX2_product_4 rfl hl (by decide) rfl (fun ls hl => ?_)
  obtain ⟨f, h⟩ := h
  exact L5 f _ _ _ _ _ _ _ hV hS hk (lv_sub hl [1, 0] rfl) h
def vX2_one_c134 (cA : Nat → ClassId) (rec : RTG) (a0 : Nat) (MC MS : Nat) (Post : Option Nat → VS → Prop) (PX : Nat → Nat → VS → Prop) (V : VS) (kc ks : Nat) : Prop := ∃ mc_14 ms_15 : Nat, kc + mc_14 ≤ MC ∧ ks + ms_15 ≤ MS ∧ bO (vO V [2] a0) (fun o_16 => vX2_wrong cA a0 (1 : Int32) V mc_14 ms_15 (fun p_12 V_13 => bO p_12 (fun n_18 => bO (vO V_13 [4] n_18) (fun o_19 => PX 0 n_18 V_13))))
def vX2_one (cA : Nat → ClassId) (rec : RTG) (a0 : Nat) (V : VS) (MC MS : Nat) (Post : Option Nat → VS → Prop) (PX : Nat → Nat → VS → Prop) : Prop := bO (vO V [2] a0) (fun o_3 => vX2_isSign cA a0 (40 : Int32) V (fun r_1 V_2 => (r_1 = 0 → (bO (gI V_2 [2] a0 3) (fun g_6 => (g_6 = (2 : Int32) → (bO (gI V_2 [2] a0 4) (fun g_40 => (g_40 ≤ (999 : Int32) → (∃ mc_45 ms_46 : Nat, 0 + mc_45 ≤ MC ∧ 0 + ms_46 ≤ MS ∧ bO (vO V_2 [2] a0) (fun o_47 => vX2_knot cA a0 V_2 mc_45 ms_46 (fun V_44 => (0 + mc_45 + 1 ≤ MC ∧ 0 + ms_46 + 1 ≤ MS ∧ ∀ (q_49 : Nat) (V_50 : VS), V_44 q_49 = none → V_50 = vU V_44 q_49 (.inr (10, [.int 0])) → ∃ mc_53 ms_54 : Nat, 0 + mc_45 + 1 + mc_53 ≤ MC ∧ 0 + ms_46 + 1 + ms_54 ≤ MS ∧ bO (vO V_50 [2] a0) (fun o_55 => vX2_number cA a0 (0 : Int32) (999 : Int32) V_50 mc_53 ms_54 (fun r_51 V_52 => vX13_init cA q_49 r_51 V_52 (fun V_58 => Post (some q_49) V_58)) PX))) PX))) ∧ (¬ (g_40 ≤ (999 : Int32)) → (∃ mc_61 ms_62 : Nat, 0 + mc_61 ≤ MC ∧ 0 + ms_62 ≤ MS ∧ bO (vO V_2 [2] a0) (fun o_63 => vX2_wrong cA a0 (2 : Int32) V_2 mc_61 ms_62 (fun p_59 V_60 => bO p_59 (fun n_65 => bO (vO V_60 [4] n_65) (fun o_66 => PX 0 n_65 V_60))))))))) ∧ (¬ (g_6 = (2 : Int32)) → (bO (gI V_2 [2] a0 3) (fun g_9 => (g_9 = 0 → (bO (gI V_2 [2] a0 4) (fun g_21 => ((17 : Int32) ≤ g_21 → (∃ mc_26 ms_27 : Nat, 0 + mc_26 ≤ MC ∧ 0 + ms_27 ≤ MS ∧ bO (vO V_2 [2] a0) (fun o_28 => vX2_knot cA a0 V_2 mc_26 ms_27 (fun V_25 => (0 + mc_26 + 1 ≤ MC ∧ 0 + ms_27 + 1 ≤ MS ∧ ∀ (q_30 : Nat) (V_31 : VS), V_25 q_30 = none → V_31 = vU V_25 q_30 (.inr (11, [.int 0])) → bO (gI V_31 [2] a0 4) (fun g_32 => vX14_init cA q_30 (g_32 - (17 : Int32)) V_31 (fun V_35 => bO (vO V_35 [2] a0) (fun o_38 => vX2_next cA a0 V_35 (fun V_37 => Post (some q_30) V_37)))))) PX))) ∧ (¬ ((17 : Int32) ≤ g_21) → (vX2_one_c134 cA rec a0 MC MS Post PX V_2 0 0))))) ∧ (¬ (g_9 = 0) → (vX2_one_c134 cA rec a0 MC MS Post PX V_2 0 0)))))))) ∧ (¬ (r_1 = 0) → (bO (gI V_2 [2] a0 5) (fun g_68 => (g_68 = (8 : Int32) → (∃ mc_109 ms_110 : Nat, 0 + mc_109 ≤ MC ∧ 0 + ms_110 ≤ MS ∧ bO (vO V_2 [2] a0) (fun o_111 => vX2_wrong cA a0 (2 : Int32) V_2 mc_109 ms_110 (fun p_107 V_108 => bO p_107 (fun n_113 => bO (vO V_108 [4] n_113) (fun o_114 => PX 0 n_113 V_108)))))) ∧ (¬ (g_68 = (8 : Int32)) → (bO (gI V_2 [2] a0 5) (fun g_71 => bO (pF V_2 [2] a0 5 (.int (g_71 + (1 : Int32)))) (fun V_73 => bO (vO V_73 [2] a0) (fun o_77 => vX2_next cA a0 V_73 (fun V_76 => ∃ mc_79 ms_80 : Nat, 0 + mc_79 ≤ MC ∧ 0 + ms_80 ≤ MS ∧ bO (vO V_76 [2] a0) (fun o_81 => rec 0 a0 V_76 mc_79 ms_80 (fun p_83 V_84 => bO (vO V_84 [2] a0) (fun o_87 => vX2_isSign cA a0 (41 : Int32) V_84 (fun r_85 V_86 => (r_85 = 0 → (∃ mc_100 ms_101 : Nat, 0 + mc_79 + mc_100 ≤ MC ∧ 0 + ms_80 + ms_101 ≤ MS ∧ bO (vO V_86 [2] a0) (fun o_102 => vX2_wrong cA a0 (1 : Int32) V_86 mc_100 ms_101 (fun p_98 V_99 => bO p_98 (fun n_104 => bO (vO V_99 [4] n_104) (fun o_105 => PX 0 n_104 V_99)))))) ∧ (¬ (r_85 = 0) → (bO (gI V_86 [2] a0 5) (fun g_90 => bO (pF V_86 [2] a0 5 (.int (g_90 - (1 : Int32)))) (fun V_92 => bO (vO V_92 [2] a0) (fun o_96 => vX2_next cA a0 V_92 (fun V_95 => Post (p_83) V_95))))))))) PX))))))))))))
set_option maxHeartbeats 4000000 in
set_option maxRecDepth 100000 in
theorem mvX2_one (l : Launch) {D : va_G} {cA : Nat → ClassId} {A : Nat → Prop} (N : Nat) (rec : RTG) (R0 : ∀ (a0 : Nat) (V : VS) (MC MS : Nat) (Post : Option Nat → VS → Prop) (PX : Nat → Nat → VS → Prop), rec 0 a0 V MC MS Post PX → vx_Met l yX2_or (ws_ yX2_or cX2_or 3 (some (.object "SaidSo$Part"))) (rG N MC MS) (vPc [.ref a0] D cA A V) (va_Qq Post (vB D A) A) (vX D A PX) MC MS A) (R1 : ∀ (a0 : Nat) (V : VS) (MC MS : Nat) (Post : Option Nat → VS → Prop) (PX : Nat → Nat → VS → Prop), rec 1 a0 V MC MS Post PX → vx_Met l yX2_and (ws_ yX2_and cX2_and 3 (some (.object "SaidSo$Part"))) (rG N MC MS) (vPc [.ref a0] D cA A V) (va_Qq Post (vB D A) A) (vX D A PX) MC MS A) (R2 : ∀ (a0 : Nat) (V : VS) (MC MS : Nat) (Post : Option Nat → VS → Prop) (PX : Nat → Nat → VS → Prop), rec 2 a0 V MC MS Post PX → vx_Met l yX2_not (ws_ yX2_not cX2_not 1 (some (.object "SaidSo$Part"))) (rG N MC MS) (vPc [.ref a0] D cA A V) (va_Qq Post (vB D A) A) (vX D A PX) MC MS A) (R3 : ∀ (a0 : Nat) (V : VS) (MC MS : Nat) (Post : Option Nat → VS → Prop) (PX : Nat → Nat → VS → Prop), rec 3 a0 V MC MS Post PX → vx_Met l yX2_compare (ws_ yX2_compare cX2_compare 4 (some (.object "SaidSo$Part"))) (rG N MC MS) (vPc [.ref a0] D cA A V) (va_Qq Post (vB D A) A) (vX D A PX) MC MS A) (R4 : ∀ (a0 : Nat) (V : VS) (MC MS : Nat) (Post : Option Nat → VS → Prop) (PX : Nat → Nat → VS → Prop), rec 4 a0 V MC MS Post PX → vx_Met l yX2_sum (ws_ yX2_sum cX2_sum 3 (some (.object "SaidSo$Part"))) (rG N MC MS) (vPc [.ref a0] D cA A V) (va_Qq Post (vB D A) A) (vX D A PX) MC MS A) (R5 : ∀ (a0 : Nat) (V : VS) (MC MS : Nat) (Post : Option Nat → VS → Prop) (PX : Nat → Nat → VS → Prop), rec 5 a0 V MC MS Post PX → vx_Met l yX2_product (ws_ yX2_product cX2_product 3 (some (.object "SaidSo$Part"))) (rG N MC MS) (vPc [.ref a0] D cA A V) (va_Qq Post (vB D A) A) (vX D A PX) MC MS A) (R6 : ∀ (a0 : Nat) (V : VS) (MC MS : Nat) (Post : Option Nat → VS → Prop) (PX : Nat → Nat → VS → Prop), rec 6 a0 V MC MS Post PX → vx_Met l yX2_one (ws_ yX2_one cX2_one 2 (some (.object "SaidSo$Part"))) (rG N MC MS) (vPc [.ref a0] D cA A V) (va_Qq Post (vB D A) A) (vX D A PX) MC MS A) (a0 : Nat) (V : VS) (MC MS : Nat) (Post : Option Nat → VS → Prop) (PX : Nat → Nat → VS → Prop) (h : vX2_one cA rec a0 V MC MS Post PX) : vx_Met l yX2_one (ws_ yX2_one cX2_one 2 (some (.object "SaidSo$Part"))) (rG (N + 1) MC MS) (vPc [.ref a0] D cA A V) (va_Qq Post (vB D A) A) (vX D A PX) MC MS A := by
  refine vst (own := RX2) (by decide) rfl (Nat.le_of_ble_eq_true rfl) ?_
  intro p e s m args below meth c ls X hret hV hS hl
  obtain ⟨S, hK, hG, hA, hnm, hlocks, htab⟩ := X
  have hx := S.1
  have hb := S.2.1
  have hk : 0 ≤ MC ∧ 0 ≤ MS := ⟨Nat.zero_le _, Nat.zero_le _⟩
  have hl : lv_has ls 2 [(0, .ref a0)] := hl
  have C134 : ∀ (V : VS) (kc ks : Nat) (H : Heap) (locs : List Loc) (ls : Array Slot), HV D A V H → va_S A s.heap H locs → (kc ≤ MC ∧ ks ≤ MS) → lv_has ls 2 [(0, .ref a0)] → vX2_one_c134 cA rec a0 MC MS Post PX V kc ks → W p l e (rG (N + 1) MC MS) s m args below meth c H locs kc ks (vx_MQ below (va_Qq Post (vB D A) A) (vX D A PX) args s MC MS A) (F0 m 134 ls []) := by
    intro V kc ks H locs ls hV hS hk hl h
    unfold vX2_one_c134 at h
    refine lv_aload_n hx hb dX2_one_134 rfl (lv_at hl 0 rfl) ?_
    refine lv_iconst hx hb dX2_one_135 kc_1 ?_
    obtain ⟨mc_14, ms_15, hc1, hc2, h⟩ := h
    obtain ⟨o_16, e_17, h⟩ := bO_e h
    refine vk_q (vr_V (As := [.int (1 : Int32)]) (rest := []) S hK hG hA hV hS e_17 rfl (mvX2_wrong l a0 (1 : Int32) V mc_14 ms_15 _ h) (cwV 1 S.2.2.2.2 (lw_V q515 q517 qs8 q140 q518) rfl rfl rfl cdX2_wrong ⟨le_rf (Nat.le_of_ble_eq_true rfl), le_rl (Nat.le_of_ble_eq_true rfl)⟩) rfl hl.1 (Nat.le_of_ble_eq_true rfl) dX2_one_136 ⟨hc1, hc2⟩) hS (fun p_12 V_13 H locs h hV hS => ?_)
    have hk : kc + mc_14 ≤ MC ∧ ks + ms_15 ≤ MS := ⟨hc1, hc2⟩
    obtain ⟨n_18, z_n_18, h9⟩ := bO_e h
    clear h; subst z_n_18; have h := h9; clear h9
    obtain ⟨o_19, e_20, h⟩ := bO_e h
    exact vt_F hx hb htab hlocks hK hV hS e_20 h hk.1 hk.2 dX2_one_139
  unfold vX2_one at h
  refine lv_aload_n hx hb dX2_one_0 rfl (lv_at hl 0 rfl) ?_
  refine lv_bipush hx hb dX2_one_1 kb_40 ?_
  obtain ⟨o_3, e_4, h⟩ := bO_e h
  refine vk_i (vr_V (As := [.int (40 : Int32)]) (rest := []) S hK hG hA hV hS e_4 rfl (mvX2_isSign l a0 (40 : Int32) V _ h) (cwV 1 S.2.2.2.2 (lw_V q893 q895 qs28 q140 q896) rfl rfl rfl cdX2_isSign ⟨le_rf (Nat.le_of_ble_eq_true rfl), le_rl (Nat.le_of_ble_eq_true rfl)⟩) rfl hl.1 (Nat.le_of_ble_eq_true rfl) dX2_one_3 ⟨hk.1, hk.2⟩) hS (fun r_1 V_2 H locs h hV hS => ?_)
  refine lv_if_eq (tgt := 74) hx hb dX2_one_6 (by decide) (fun c_5 => ?_) (fun c_5 => ?_)
  · replace h := h.1 c_5
    refine lv_aload_n hx hb dX2_one_74 rfl (lv_at hl 0 rfl) ?_
    obtain ⟨g_6, e_7, h⟩ := bO_e h
    refine vg_i S hK hV fX2_33 e_7 dX2_one_75 ?_
    refine lv_iconst hx hb dX2_one_78 kc_2 ?_
    refine lv_icmp_ne (tgt := 118) hx hb dX2_one_79 (by decide) (fun c_8 => ?_) (fun c_8 => ?_)
    · replace h := h.2 c_8
      refine lv_aload_n hx hb dX2_one_118 rfl (lv_at hl 0 rfl) ?_
      obtain ⟨g_9, e_10, h⟩ := bO_e h
      refine vg_i S hK hV fX2_33 e_10 dX2_one_119 ?_
      refine lv_if_ne (tgt := 134) hx hb dX2_one_122 (by decide) (fun c_11 => ?_) (fun c_11 => ?_)
      · replace h := h.2 c_11
        exact C134 _ _ _ _ _ _ hV hS hk (lv_sub hl [0] rfl) h
      · replace h := h.1 c_11
        refine lv_aload_n hx hb dX2_one_125 rfl (lv_at hl 0 rfl) ?_
        obtain ⟨g_21, e_22, h⟩ := bO_e h
        refine vg_i S hK hV fX2_43 e_22 dX2_one_126 ?_
        refine lv_bipush hx hb dX2_one_129 kb_17 ?_
        refine lv_icmp_ge (tgt := 140) hx hb dX2_one_131 (by decide) (fun c_23 => ?_) (fun c_23 => ?_)
        · replace h := h.1 c_23
          refine lv_aload_n hx hb dX2_one_140 rfl (lv_at hl 0 rfl) ?_
          obtain ⟨mc_26, ms_27, hc1, hc2, h⟩ := h
          obtain ⟨o_28, e_29, h⟩ := bO_e h
          refine vy_v (vr_VX (As := []) (rest := []) S hK hG hA hV hS e_29 rfl (mvX2_knot l a0 V_2 mc_26 ms_27 _ _ h) (cwV 0 S.2.2.2.2 (lw_V q897 q899 qs29 q140 q900) rfl rfl rfl cdX2_knot ⟨le_rf (Nat.le_of_ble_eq_true rfl), le_rl (Nat.le_of_ble_eq_true rfl)⟩) rfl hl.1 (Nat.le_of_ble_eq_true rfl) dX2_one_141 ⟨hc1, hc2⟩) hS (vo_X htab hlocks hc1 hc2) (fun V_25 H locs h hV hS => ?_)
          have hk : 0 + mc_26 ≤ MC ∧ 0 + ms_27 ≤ MS := ⟨hc1, hc2⟩
          obtain ⟨hc1, hc2, h⟩ := h
          refine vw_new (ci := 11) (fs := [.int 0]) (C := RX14) (T := TX14) (N := 1) S hK hV hS hA in_X14 tyX14 tyX14_ok q914 q915 q167 rfl (fun j hj => by first | (rcases j with _ | _ | _ | _ | _ | _ | _ | _ | _ | _ | _ | _ | _ | _ | _ | _ | _ | _ | _ | _ | _ | j <;> first | rfl | omega)) hc1 hc2 dX2_one_144 (fun q_30 V_31 H g1 g2 hV hS => ?_)
          replace h := h q_30 V_31 g1 g2
          have hk : 0 + mc_26 + 1 ≤ MC ∧ 0 + ms_27 + 1 ≤ MS := ⟨hc1, hc2⟩
          refine lv_dup hx hb dX2_one_147 rfl ?_
          refine lv_aload_n hx hb dX2_one_148 rfl (lv_at hl 0 rfl) ?_
          obtain ⟨g_32, e_33, h⟩ := bO_e h
          refine vg_i S hK hV fX2_43 e_33 dX2_one_149 ?_
          refine lv_bipush hx hb dX2_one_152 kb_17 ?_
          refine lv_isub hx hb dX2_one_154 ?_
          refine vk_v (vr_I (As := [.int (g_32 - (17 : Int32))]) (rest := [.ref q_30]) S hK hG hA hV hS (mvX14_init l q_30 (g_32 - (17 : Int32)) V_31 _ h) (cwI 1 S.2.2.2.2 (lw_meth q918) rfl rfl rfl (S.2.2.2.2 _ q167) (S.2.2.2.2 _ q916) (S.2.2.2.2 _ q917) rfl cdX14_init ⟨le_rf (Nat.le_of_ble_eq_true rfl), le_rl (Nat.le_of_ble_eq_true rfl)⟩) rfl hl.1 (Nat.le_of_ble_eq_true rfl) dX2_one_155 ⟨hk.1, hk.2⟩) hS (fun V_35 H locs h hV hS => ?_)
          refine lv_astore_n (lv' := [(1, .ref q_30), (0, .ref a0)]) hx hb dX2_one_158 rfl hl (by decide) rfl (fun ls hl => ?_)
          refine lv_aload_n hx hb dX2_one_159 rfl (lv_at hl 1 rfl) ?_
          obtain ⟨o_38, e_39, h⟩ := bO_e h
          refine vk_v (vr_V (As := []) (rest := []) S hK hG hA hV hS e_39 rfl (mvX2_next l a0 V_35 _ h) (cwV 0 S.2.2.2.2 (lw_V q376 q378 qs1 q140 q379) rfl rfl rfl cdX2_next ⟨le_rf (Nat.le_of_ble_eq_true rfl), le_rl (Nat.le_of_ble_eq_true rfl)⟩) rfl hl.1 (Nat.le_of_ble_eq_true rfl) dX2_one_160 ⟨hk.1, hk.2⟩) hS (fun V_37 H locs h hV hS => ?_)
          refine lv_aload_n hx hb dX2_one_163 rfl (lv_at hl 0 rfl) ?_
          exact vx_ret (ve_q (r := some q_30) S hlocks hret (Or.inl ⟨_, rfl⟩) hV hS h hk.1 hk.2 dX2_one_164)
        · replace h := h.2 c_23
          exact C134 _ _ _ _ _ _ hV hS hk (lv_sub hl [0] rfl) h
    · replace h := h.1 c_8
      refine lv_aload_n hx hb dX2_one_82 rfl (lv_at hl 0 rfl) ?_
      obtain ⟨g_40, e_41, h⟩ := bO_e h
      refine vg_i S hK hV fX2_43 e_41 dX2_one_83 ?_
      refine lv_sipush hx hb dX2_one_86 ks_999 ?_
      refine lv_icmp_le (tgt := 98) hx hb dX2_one_89 (by decide) (fun c_42 => ?_) (fun c_42 => ?_)
      · replace h := h.1 c_42
        refine lv_aload_n hx hb dX2_one_98 rfl (lv_at hl 0 rfl) ?_
        obtain ⟨mc_45, ms_46, hc1, hc2, h⟩ := h
        obtain ⟨o_47, e_48, h⟩ := bO_e h
        refine vy_v (vr_VX (As := []) (rest := []) S hK hG hA hV hS e_48 rfl (mvX2_knot l a0 V_2 mc_45 ms_46 _ _ h) (cwV 0 S.2.2.2.2 (lw_V q897 q899 qs29 q140 q900) rfl rfl rfl cdX2_knot ⟨le_rf (Nat.le_of_ble_eq_true rfl), le_rl (Nat.le_of_ble_eq_true rfl)⟩) rfl hl.1 (Nat.le_of_ble_eq_true rfl) dX2_one_99 ⟨hc1, hc2⟩) hS (vo_X htab hlocks hc1 hc2) (fun V_44 H locs h hV hS => ?_)
        have hk : 0 + mc_45 ≤ MC ∧ 0 + ms_46 ≤ MS := ⟨hc1, hc2⟩
        obtain ⟨hc1, hc2, h⟩ := h
        refine vw_new (ci := 10) (fs := [.int 0]) (C := RX13) (T := TX13) (N := 1) S hK hV hS hA in_X13 tyX13 tyX13_ok q901 q902 q166 rfl (fun j hj => by first | (rcases j with _ | _ | _ | _ | _ | _ | _ | _ | _ | _ | _ | _ | _ | _ | _ | _ | _ | _ | _ | _ | _ | j <;> first | rfl | omega)) hc1 hc2 dX2_one_102 (fun q_49 V_50 H g1 g2 hV hS => ?_)
        replace h := h q_49 V_50 g1 g2
        have hk : 0 + mc_45 + 1 ≤ MC ∧ 0 + ms_46 + 1 ≤ MS := ⟨hc1, hc2⟩
        refine lv_dup hx hb dX2_one_105 rfl ?_
        refine lv_aload_n hx hb dX2_one_106 rfl (lv_at hl 0 rfl) ?_
        refine lv_iconst hx hb dX2_one_107 kc_0 ?_
        refine lv_sipush hx hb dX2_one_108 ks_999 ?_
        obtain ⟨mc_53, ms_54, hc1, hc2, h⟩ := h
        obtain ⟨o_55, e_56, h⟩ := bO_e h
        refine vy_i (vr_VX (As := [.int (0 : Int32), .int (999 : Int32)]) (rest := [.ref q_49, .ref q_49]) S hK hG hA hV hS e_56 rfl (mvX2_number l a0 (0 : Int32) (999 : Int32) V_50 mc_53 ms_54 _ _ h) (cwV 2 S.2.2.2.2 (lw_V q625 q627 qs12 q140 q628) rfl rfl rfl cdX2_number ⟨le_rf (Nat.le_of_ble_eq_true rfl), le_rl (Nat.le_of_ble_eq_true rfl)⟩) rfl hl.1 (Nat.le_of_ble_eq_true rfl) dX2_one_111 ⟨hc1, hc2⟩) hS (vo_X htab hlocks hc1 hc2) (fun r_51 V_52 H locs h hV hS => ?_)
        have hk : 0 + mc_45 + 1 + mc_53 ≤ MC ∧ 0 + ms_46 + 1 + ms_54 ≤ MS := ⟨hc1, hc2⟩
        refine vk_v (vr_I (As := [.int r_51]) (rest := [.ref q_49]) S hK hG hA hV hS (mvX13_init l q_49 r_51 V_52 _ h) (cwI 1 S.2.2.2.2 (lw_meth q905) rfl rfl rfl (S.2.2.2.2 _ q166) (S.2.2.2.2 _ q903) (S.2.2.2.2 _ q904) rfl cdX13_init ⟨le_rf (Nat.le_of_ble_eq_true rfl), le_rl (Nat.le_of_ble_eq_true rfl)⟩) rfl hl.1 (Nat.le_of_ble_eq_true rfl) dX2_one_114 ⟨hk.1, hk.2⟩) hS (fun V_58 H locs h hV hS => ?_)
        exact vx_ret (ve_q (r := some q_49) S hlocks hret (Or.inl ⟨_, rfl⟩) hV hS h hk.1 hk.2 dX2_one_117)
      · replace h := h.2 c_42
        refine lv_aload_n hx hb dX2_one_92 rfl (lv_at hl 0 rfl) ?_
        refine lv_iconst hx hb dX2_one_93 kc_2 ?_
        obtain ⟨mc_61, ms_62, hc1, hc2, h⟩ := h
        obtain ⟨o_63, e_64, h⟩ := bO_e h
        refine vk_q (vr_V (As := [.int (2 : Int32)]) (rest := []) S hK hG hA hV hS e_64 rfl (mvX2_wrong l a0 (2 : Int32) V_2 mc_61 ms_62 _ h) (cwV 1 S.2.2.2.2 (lw_V q515 q517 qs8 q140 q518) rfl rfl rfl cdX2_wrong ⟨le_rf (Nat.le_of_ble_eq_true rfl), le_rl (Nat.le_of_ble_eq_true rfl)⟩) rfl hl.1 (Nat.le_of_ble_eq_true rfl) dX2_one_94 ⟨hc1, hc2⟩) hS (fun p_59 V_60 H locs h hV hS => ?_)
        have hk : 0 + mc_61 ≤ MC ∧ 0 + ms_62 ≤ MS := ⟨hc1, hc2⟩
        obtain ⟨n_65, z_n_65, h9⟩ := bO_e h
        clear h; subst z_n_65; have h := h9; clear h9
        obtain ⟨o_66, e_67, h⟩ := bO_e h
        exact vt_F hx hb htab hlocks hK hV hS e_67 h hk.1 hk.2 dX2_one_97
  · replace h := h.2 c_5
    refine lv_aload_n hx hb dX2_one_9 rfl (lv_at hl 0 rfl) ?_
    obtain ⟨g_68, e_69, h⟩ := bO_e h
    refine vg_i S hK hV fX2_87 e_69 dX2_one_10 ?_
    refine lv_bipush hx hb dX2_one_13 kb_8 ?_
    refine lv_icmp_ne (tgt := 24) hx hb dX2_one_15 (by decide) (fun c_70 => ?_) (fun c_70 => ?_)
    · replace h := h.2 c_70
      refine lv_aload_n hx hb dX2_one_24 rfl (lv_at hl 0 rfl) ?_
      refine lv_dup hx hb dX2_one_25 rfl ?_
      obtain ⟨g_71, e_72, h⟩ := bO_e h
      refine vg_i S hK hV fX2_87 e_72 dX2_one_26 ?_
      refine lv_iconst hx hb dX2_one_29 kc_1 ?_
      refine lv_iadd hx hb dX2_one_30 ?_
      obtain ⟨V_73, e_74, h⟩ := bO_e h
      refine vp_v (v := .int (g_71 + (1 : Int32))) S hK hV hS fX2_87 (Or.inl rfl) rfl rfl e_74 dX2_one_31 (fun H locs hV hS => ?_)
      refine lv_aload_n hx hb dX2_one_34 rfl (lv_at hl 0 rfl) ?_
      obtain ⟨o_77, e_78, h⟩ := bO_e h
      refine vk_v (vr_V (As := []) (rest := []) S hK hG hA hV hS e_78 rfl (mvX2_next l a0 V_73 _ h) (cwV 0 S.2.2.2.2 (lw_V q376 q378 qs1 q140 q379) rfl rfl rfl cdX2_next ⟨le_rf (Nat.le_of_ble_eq_true rfl), le_rl (Nat.le_of_ble_eq_true rfl)⟩) rfl hl.1 (Nat.le_of_ble_eq_true rfl) dX2_one_35 ⟨hk.1, hk.2⟩) hS (fun V_76 H locs h hV hS => ?_)
      refine lv_aload_n hx hb dX2_one_38 rfl (lv_at hl 0 rfl) ?_
      obtain ⟨mc_79, ms_80, hc1, hc2, h⟩ := h
      obtain ⟨o_81, e_82, h⟩ := bO_e h
      refine vy_q (vr_VX (As := []) (rest := []) S hK hG hA hV hS e_82 rfl (R0 _ _ _ _ _ _ h) (cwV 0 S.2.2.2.2 (lw_V q865 q867 qs21 q140 q868) rfl rfl rfl cdX2_or ⟨le_rg, le_rgl (Nat.le_of_ble_eq_true rfl)⟩) rfl hl.1 (Nat.le_of_ble_eq_true rfl) dX2_one_39 ⟨hc1, hc2⟩) hS (vo_X htab hlocks hc1 hc2) (fun p_83 V_84 H locs h hV hS => ?_)
      have hk : 0 + mc_79 ≤ MC ∧ 0 + ms_80 ≤ MS := ⟨hc1, hc2⟩
      refine lv_astore_nQ (r := p_83) (lv' := [(1, va_rf p_83), (0, .ref a0)]) hx hb dX2_one_42 rfl hl (by decide) rfl (fun ls hl => ?_)
      refine lv_aload_n hx hb dX2_one_43 rfl (lv_at hl 1 rfl) ?_
      refine lv_bipush hx hb dX2_one_44 kb_41 ?_
      obtain ⟨o_87, e_88, h⟩ := bO_e h
      refine vk_i (vr_V (As := [.int (41 : Int32)]) (rest := []) S hK hG hA hV hS e_88 rfl (mvX2_isSign l a0 (41 : Int32) V_84 _ h) (cwV 1 S.2.2.2.2 (lw_V q893 q895 qs28 q140 q896) rfl rfl rfl cdX2_isSign ⟨le_rf (Nat.le_of_ble_eq_true rfl), le_rl (Nat.le_of_ble_eq_true rfl)⟩) rfl hl.1 (Nat.le_of_ble_eq_true rfl) dX2_one_46 ⟨hk.1, hk.2⟩) hS (fun r_85 V_86 H locs h hV hS => ?_)
      refine lv_if_ne (tgt := 58) hx hb dX2_one_49 (by decide) (fun c_89 => ?_) (fun c_89 => ?_)
      · replace h := h.2 c_89
        refine lv_aload_n hx hb dX2_one_58 rfl (lv_at hl 1 rfl) ?_
        refine lv_dup hx hb dX2_one_59 rfl ?_
        obtain ⟨g_90, e_91, h⟩ := bO_e h
        refine vg_i S hK hV fX2_87 e_91 dX2_one_60 ?_
        refine lv_iconst hx hb dX2_one_63 kc_1 ?_
        refine lv_isub hx hb dX2_one_64 ?_
        obtain ⟨V_92, e_93, h⟩ := bO_e h
        refine vp_v (v := .int (g_90 - (1 : Int32))) S hK hV hS fX2_87 (Or.inl rfl) rfl rfl e_93 dX2_one_65 (fun H locs hV hS => ?_)
        refine lv_aload_n hx hb dX2_one_68 rfl (lv_at hl 1 rfl) ?_
        obtain ⟨o_96, e_97, h⟩ := bO_e h
        refine vk_v (vr_V (As := []) (rest := []) S hK hG hA hV hS e_97 rfl (mvX2_next l a0 V_92 _ h) (cwV 0 S.2.2.2.2 (lw_V q376 q378 qs1 q140 q379) rfl rfl rfl cdX2_next ⟨le_rf (Nat.le_of_ble_eq_true rfl), le_rl (Nat.le_of_ble_eq_true rfl)⟩) rfl hl.1 (Nat.le_of_ble_eq_true rfl) dX2_one_69 ⟨hk.1, hk.2⟩) hS (fun V_95 H locs h hV hS => ?_)
        refine lv_aload_nQ hx hb dX2_one_72 rfl (lv_at hl 0 rfl) ?_
        exact vx_ret (ve_q (r := p_83) S hlocks hret (Or.inl ⟨_, rfl⟩) hV hS h hk.1 hk.2 dX2_one_73)
      · replace h := h.1 c_89
        refine lv_aload_n hx hb dX2_one_52 rfl (lv_at hl 1 rfl) ?_
        refine lv_iconst hx hb dX2_one_53 kc_1 ?_
        obtain ⟨mc_100, ms_101, hc1, hc2, h⟩ := h
        obtain ⟨o_102, e_103, h⟩ := bO_e h
        refine vk_q (vr_V (As := [.int (1 : Int32)]) (rest := []) S hK hG hA hV hS e_103 rfl (mvX2_wrong l a0 (1 : Int32) V_86 mc_100 ms_101 _ h) (cwV 1 S.2.2.2.2 (lw_V q515 q517 qs8 q140 q518) rfl rfl rfl cdX2_wrong ⟨le_rf (Nat.le_of_ble_eq_true rfl), le_rl (Nat.le_of_ble_eq_true rfl)⟩) rfl hl.1 (Nat.le_of_ble_eq_true rfl) dX2_one_54 ⟨hc1, hc2⟩) hS (fun p_98 V_99 H locs h hV hS => ?_)
        have hk : 0 + mc_79 + mc_100 ≤ MC ∧ 0 + ms_80 + ms_101 ≤ MS := ⟨hc1, hc2⟩
        obtain ⟨n_104, z_n_104, h9⟩ := bO_e h
        clear h; subst z_n_104; have h := h9; clear h9
        obtain ⟨o_105, e_106, h⟩ := bO_e h
        exact vt_F hx hb htab hlocks hK hV hS e_106 h hk.1 hk.2 dX2_one_57
    · replace h := h.1 c_70
      refine lv_aload_n hx hb dX2_one_18 rfl (lv_at hl 0 rfl) ?_
      refine lv_iconst hx hb dX2_one_19 kc_2 ?_
      obtain ⟨mc_109, ms_110, hc1, hc2, h⟩ := h
      obtain ⟨o_111, e_112, h⟩ := bO_e h
      refine vk_q (vr_V (As := [.int (2 : Int32)]) (rest := []) S hK hG hA hV hS e_112 rfl (mvX2_wrong l a0 (2 : Int32) V_2 mc_109 ms_110 _ h) (cwV 1 S.2.2.2.2 (lw_V q515 q517 qs8 q140 q518) rfl rfl rfl cdX2_wrong ⟨le_rf (Nat.le_of_ble_eq_true rfl), le_rl (Nat.le_of_ble_eq_true rfl)⟩) rfl hl.1 (Nat.le_of_ble_eq_true rfl) dX2_one_20 ⟨hc1, hc2⟩) hS (fun p_107 V_108 H locs h hV hS => ?_)
      have hk : 0 + mc_109 ≤ MC ∧ 0 + ms_110 ≤ MS := ⟨hc1, hc2⟩
      obtain ⟨n_113, z_n_113, h9⟩ := bO_e h
      clear h; subst z_n_113; have h := h9; clear h9
      obtain ⟨o_114, e_115, h⟩ := bO_e h
      exact vt_F hx hb htab hlocks hK hV hS e_115 h hk.1 hk.2 dX2_one_23
def vX2_G (cA : Nat → ClassId) : Nat → RTG
  | 0 => fun _ _ _ _ _ _ _ => False
  | n + 1 => fun t a0 V MC MS Post PX => if t = 0 then vX2_or cA (vX2_G cA n) a0 V MC MS Post PX else if t = 1 then vX2_and cA (vX2_G cA n) a0 V MC MS Post PX else if t = 2 then vX2_not cA (vX2_G cA n) a0 V MC MS Post PX else if t = 3 then vX2_compare cA (vX2_G cA n) a0 V MC MS Post PX else if t = 4 then vX2_sum cA (vX2_G cA n) a0 V MC MS Post PX else if t = 5 then vX2_product cA (vX2_G cA n) a0 V MC MS Post PX else vX2_one cA (vX2_G cA n) a0 V MC MS Post PX
theorem mvX2_gall (l : Launch) {D : va_G} {cA : Nat → ClassId} {A : Nat → Prop} : ∀ n : Nat, (∀ (a0 : Nat) (V : VS) (MC MS : Nat) (Post : Option Nat → VS → Prop) (PX : Nat → Nat → VS → Prop), vX2_G cA n 0 a0 V MC MS Post PX → vx_Met l yX2_or (ws_ yX2_or cX2_or 3 (some (.object "SaidSo$Part"))) (rG n MC MS) (vPc [.ref a0] D cA A V) (va_Qq Post (vB D A) A) (vX D A PX) MC MS A) ∧ (∀ (a0 : Nat) (V : VS) (MC MS : Nat) (Post : Option Nat → VS → Prop) (PX : Nat → Nat → VS → Prop), vX2_G cA n 1 a0 V MC MS Post PX → vx_Met l yX2_and (ws_ yX2_and cX2_and 3 (some (.object "SaidSo$Part"))) (rG n MC MS) (vPc [.ref a0] D cA A V) (va_Qq Post (vB D A) A) (vX D A PX) MC MS A) ∧ (∀ (a0 : Nat) (V : VS) (MC MS : Nat) (Post : Option Nat → VS → Prop) (PX : Nat → Nat → VS → Prop), vX2_G cA n 2 a0 V MC MS Post PX → vx_Met l yX2_not (ws_ yX2_not cX2_not 1 (some (.object "SaidSo$Part"))) (rG n MC MS) (vPc [.ref a0] D cA A V) (va_Qq Post (vB D A) A) (vX D A PX) MC MS A) ∧ (∀ (a0 : Nat) (V : VS) (MC MS : Nat) (Post : Option Nat → VS → Prop) (PX : Nat → Nat → VS → Prop), vX2_G cA n 3 a0 V MC MS Post PX → vx_Met l yX2_compare (ws_ yX2_compare cX2_compare 4 (some (.object "SaidSo$Part"))) (rG n MC MS) (vPc [.ref a0] D cA A V) (va_Qq Post (vB D A) A) (vX D A PX) MC MS A) ∧ (∀ (a0 : Nat) (V : VS) (MC MS : Nat) (Post : Option Nat → VS → Prop) (PX : Nat → Nat → VS → Prop), vX2_G cA n 4 a0 V MC MS Post PX → vx_Met l yX2_sum (ws_ yX2_sum cX2_sum 3 (some (.object "SaidSo$Part"))) (rG n MC MS) (vPc [.ref a0] D cA A V) (va_Qq Post (vB D A) A) (vX D A PX) MC MS A) ∧ (∀ (a0 : Nat) (V : VS) (MC MS : Nat) (Post : Option Nat → VS → Prop) (PX : Nat → Nat → VS → Prop), vX2_G cA n 5 a0 V MC MS Post PX → vx_Met l yX2_product (ws_ yX2_product cX2_product 3 (some (.object "SaidSo$Part"))) (rG n MC MS) (vPc [.ref a0] D cA A V) (va_Qq Post (vB D A) A) (vX D A PX) MC MS A) ∧ (∀ (a0 : Nat) (V : VS) (MC MS : Nat) (Post : Option Nat → VS → Prop) (PX : Nat → Nat → VS → Prop), vX2_G cA n 6 a0 V MC MS Post PX → vx_Met l yX2_one (ws_ yX2_one cX2_one 2 (some (.object "SaidSo$Part"))) (rG n MC MS) (vPc [.ref a0] D cA A V) (va_Qq Post (vB D A) A) (vX D A PX) MC MS A) := by
  intro n
  induction n with
  | zero => exact ⟨fun _ _ _ _ _ _ h => h.elim, fun _ _ _ _ _ _ h => h.elim, fun _ _ _ _ _ _ h => h.elim, fun _ _ _ _ _ _ h => h.elim, fun _ _ _ _ _ _ h => h.elim, fun _ _ _ _ _ _ h => h.elim, fun _ _ _ _ _ _ h => h.elim⟩
  | succ n ih =>
    obtain ⟨R0, R1, R2, R3, R4, R5, R6⟩ := ih
    exact ⟨fun a0 V MC MS Post PX h => mvX2_or l n _ R0 R1 R2 R3 R4 R5 R6 a0 V MC MS Post PX (by simpa [vX2_G] using h), fun a0 V MC MS Post PX h => mvX2_and l n _ R0 R1 R2 R3 R4 R5 R6 a0 V MC MS Post PX (by simpa [vX2_G] using h), fun a0 V MC MS Post PX h => mvX2_not l n _ R0 R1 R2 R3 R4 R5 R6 a0 V MC MS Post PX (by simpa [vX2_G] using h), fun a0 V MC MS Post PX h => mvX2_compare l n _ R0 R1 R2 R3 R4 R5 R6 a0 V MC MS Post PX (by simpa [vX2_G] using h), fun a0 V MC MS Post PX h => mvX2_sum l n _ R0 R1 R2 R3 R4 R5 R6 a0 V MC MS Post PX (by simpa [vX2_G] using h), fun a0 V MC MS Post PX h => mvX2_product l n _ R0 R1 R2 R3 R4 R5 R6 a0 V MC MS Post PX (by simpa [vX2_G] using h), fun a0 V MC MS Post PX h => mvX2_one l n _ R0 R1 R2 R3 R4 R5 R6 a0 V MC MS Post PX (by simpa [vX2_G] using h)⟩
theorem mvX2_g0 (l : Launch) {D : va_G} {cA : Nat → ClassId} {A : Nat → Prop} (n : Nat) (a0 : Nat) (V : VS) (MC MS : Nat) (Post : Option Nat → VS → Prop) (PX : Nat → Nat → VS → Prop) (h : vX2_G cA n 0 a0 V MC MS Post PX) : vx_Met l yX2_or (ws_ yX2_or cX2_or 3 (some (.object "SaidSo$Part"))) (rG n MC MS) (vPc [.ref a0] D cA A V) (va_Qq Post (vB D A) A) (vX D A PX) MC MS A := (mvX2_gall l n).1 a0 V MC MS Post PX h
theorem mvX2_g1 (l : Launch) {D : va_G} {cA : Nat → ClassId} {A : Nat → Prop} (n : Nat) (a0 : Nat) (V : VS) (MC MS : Nat) (Post : Option Nat → VS → Prop) (PX : Nat → Nat → VS → Prop) (h : vX2_G cA n 1 a0 V MC MS Post PX) : vx_Met l yX2_and (ws_ yX2_and cX2_and 3 (some (.object "SaidSo$Part"))) (rG n MC MS) (vPc [.ref a0] D cA A V) (va_Qq Post (vB D A) A) (vX D A PX) MC MS A := (mvX2_gall l n).2.1 a0 V MC MS Post PX h
theorem mvX2_g2 (l : Launch) {D : va_G} {cA : Nat → ClassId} {A : Nat → Prop} (n : Nat) (a0 : Nat) (V : VS) (MC MS : Nat) (Post : Option Nat → VS → Prop) (PX : Nat → Nat → VS → Prop) (h : vX2_G cA n 2 a0 V MC MS Post PX) : vx_Met l yX2_not (ws_ yX2_not cX2_not 1 (some (.object "SaidSo$Part"))) (rG n MC MS) (vPc [.ref a0] D cA A V) (va_Qq Post (vB D A) A) (vX D A PX) MC MS A := (mvX2_gall l n).2.2.1 a0 V MC MS Post PX h
theorem mvX2_g3 (l : Launch) {D : va_G} {cA : Nat → ClassId} {A : Nat → Prop} (n : Nat) (a0 : Nat) (V : VS) (MC MS : Nat) (Post : Option Nat → VS → Prop) (PX : Nat → Nat → VS → Prop) (h : vX2_G cA n 3 a0 V MC MS Post PX) : vx_Met l yX2_compare (ws_ yX2_compare cX2_compare 4 (some (.object "SaidSo$Part"))) (rG n MC MS) (vPc [.ref a0] D cA A V) (va_Qq Post (vB D A) A) (vX D A PX) MC MS A := (mvX2_gall l n).2.2.2.1 a0 V MC MS Post PX h
theorem mvX2_g4 (l : Launch) {D : va_G} {cA : Nat → ClassId} {A : Nat → Prop} (n : Nat) (a0 : Nat) (V : VS) (MC MS : Nat) (Post : Option Nat → VS → Prop) (PX : Nat → Nat → VS → Prop) (h : vX2_G cA n 4 a0 V MC MS Post PX) : vx_Met l yX2_sum (ws_ yX2_sum cX2_sum 3 (some (.object "SaidSo$Part"))) (rG n MC MS) (vPc [.ref a0] D cA A V) (va_Qq Post (vB D A) A) (vX D A PX) MC MS A := (mvX2_gall l n).2.2.2.2.1 a0 V MC MS Post PX h
theorem mvX2_g5 (l : Launch) {D : va_G} {cA : Nat → ClassId} {A : Nat → Prop} (n : Nat) (a0 : Nat) (V : VS) (MC MS : Nat) (Post : Option Nat → VS → Prop) (PX : Nat → Nat → VS → Prop) (h : vX2_G cA n 5 a0 V MC MS Post PX) : vx_Met l yX2_product (ws_ yX2_product cX2_product 3 (some (.object "SaidSo$Part"))) (rG n MC MS) (vPc [.ref a0] D cA A V) (va_Qq Post (vB D A) A) (vX D A PX) MC MS A := (mvX2_gall l n).2.2.2.2.2.1 a0 V MC MS Post PX h
theorem mvX2_g6 (l : Launch) {D : va_G} {cA : Nat → ClassId} {A : Nat → Prop} (n : Nat) (a0 : Nat) (V : VS) (MC MS : Nat) (Post : Option Nat → VS → Prop) (PX : Nat → Nat → VS → Prop) (h : vX2_G cA n 6 a0 V MC MS Post PX) : vx_Met l yX2_one (ws_ yX2_one cX2_one 2 (some (.object "SaidSo$Part"))) (rG n MC MS) (vPc [.ref a0] D cA A V) (va_Qq Post (vB D A) A) (vX D A PX) MC MS A := (mvX2_gall l n).2.2.2.2.2.2 a0 V MC MS Post PX h
def vX2_line_c225 (cA : Nat → ClassId) (a0 : Nat) (MC MS : Nat) (Post : VS → Prop) (PX : Nat → Nat → VS → Prop) (V : VS) (kc ks : Nat) : Prop := bO (vO V [2] a0) (fun o_27 => vX2_isSign cA a0 (59 : Int32) V (fun r_25 V_26 => (r_25 = 0 → (∃ mc_43 ms_44 : Nat, kc + mc_43 ≤ MC ∧ ks + ms_44 ≤ MS ∧ bO (vO V_26 [2] a0) (fun o_45 => vX2_wrong cA a0 (1 : Int32) V_26 mc_43 ms_44 (fun p_41 V_42 => bO p_41 (fun n_47 => bO (vO V_42 [4] n_47) (fun o_48 => PX 0 n_47 V_42)))))) ∧ (¬ (r_25 = 0) → (bO (vO V_26 [2] a0) (fun o_32 => vX2_next cA a0 V_26 (fun V_31 => bO (gR V_31 [2] a0 6) (fun p_34 => bO p_34 (fun n_36 => bO (gI V_31 [3] n_36 5) (fun g_37 => bO (pF V_31 [3] n_36 5 (.int (g_37 + (1 : Int32)))) (fun V_39 => Post V_39))))))))))
def vX2_line_c197 (cA : Nat → ClassId) (a0 : Nat) (MC MS : Nat) (Post : VS → Prop) (PX : Nat → Nat → VS → Prop) (t0 : Int32) (V : VS) (kc ks : Nat) : Prop := ∃ mc_61 ms_62 : Nat, kc + mc_61 ≤ MC ∧ ks + ms_62 ≤ MS ∧ bO (vO V [2] a0) (fun o_63 => vX2_talk cA a0 t0 V mc_61 ms_62 (fun V_60 => vX2_line_c225 cA a0 MC MS Post PX V_60 (kc + mc_61) (ks + ms_62)) PX)
def vX2_line_c134 (cA : Nat → ClassId) (a0 : Nat) (MC MS : Nat) (Post : VS → Prop) (PX : Nat → Nat → VS → Prop) (x1 : Int32) (V : VS) (kc ks : Nat) : Prop := bO (vO V [2] a0) (fun o_16 => vX2_next cA a0 V (fun V_15 => (x1 = 0 → (∃ mc_21 ms_22 : Nat, kc + mc_21 ≤ MC ∧ ks + ms_22 ≤ MS ∧ bO (vO V_15 [2] a0) (fun o_23 => vX2_thing cA a0 V_15 mc_21 ms_22 (fun V_20 => vX2_line_c225 cA a0 MC MS Post PX V_20 (kc + mc_21) (ks + ms_22)) PX))) ∧ (¬ x1 = 0 → (x1 = 1 → (∃ mc_53 ms_54 : Nat, kc + mc_53 ≤ MC ∧ ks + ms_54 ≤ MS ∧ bO (vO V_15 [2] a0) (fun o_55 => vX2_teller cA a0 V_15 mc_53 ms_54 (fun V_52 => vX2_line_c225 cA a0 MC MS Post PX V_52 (kc + mc_53) (ks + ms_54)) PX))) ∧ (¬ x1 = 1 → (x1 = 2 → ((x1 = (3 : Int32) → (vX2_line_c197 cA a0 MC MS Post PX (1 : Int32) V_15 kc ks)) ∧ (¬ (x1 = (3 : Int32)) → (vX2_line_c197 cA a0 MC MS Post PX (0 : Int32) V_15 kc ks)))) ∧ (¬ x1 = 2 → (x1 = 3 → ((x1 = (3 : Int32) → (vX2_line_c197 cA a0 MC MS Post PX (1 : Int32) V_15 kc ks)) ∧ (¬ (x1 = (3 : Int32)) → (vX2_line_c197 cA a0 MC MS Post PX (0 : Int32) V_15 kc ks)))) ∧ (¬ x1 = 3 → (x1 = 4 → (∃ mc_70 ms_71 : Nat, kc + mc_70 ≤ MC ∧ ks + ms_71 ≤ MS ∧ bO (vO V_15 [2] a0) (fun o_72 => vX2_page cA a0 V_15 mc_70 ms_71 (fun V_69 => vX2_line_c225 cA a0 MC MS Post PX V_69 (kc + mc_70) (ks + ms_71)) PX))) ∧ (¬ x1 = 4 → bO (gR V_15 [2] a0 6) (fun p_74 => bO p_74 (fun n_76 => bO (gR V_15 [3] n_76 4) (fun p_77 => ∃ mc_79 ms_80 : Nat, kc + mc_79 ≤ MC ∧ ks + ms_80 ≤ MS ∧ bO (vO V_15 [2] a0) (fun o_81 => vX2_G cA 220 0 a0 V_15 mc_79 ms_80 (fun p_83 V_84 => bO p_77 (fun n_85 => bO p_83 (fun n_86 => bO (vO V_84 [10, 11, 12, 13] n_86) (fun o_88 => bO (tR V_84 (cA 5) n_85 (x1 - (5 : Int32)) (some n_86)) (fun V_87 => vX2_line_c225 cA a0 MC MS Post PX V_87 (kc + mc_79) (ks + ms_80)))))) PX)))))))))))
def vX2_line_c109 (cA : Nat → ClassId) (a0 : Nat) (MC MS : Nat) (Post : VS → Prop) (PX : Nat → Nat → VS → Prop) (x1 : Int32) (V : VS) (kc ks : Nat) : Prop := (x1 < (5 : Int32) → (vX2_line_c134 cA a0 MC MS Post PX x1 V kc ks)) ∧ (¬ (x1 < (5 : Int32)) → (bO (gR V [2] a0 6) (fun p_91 => bO p_91 (fun n_93 => bO (gR V [3] n_93 4) (fun p_94 => bO p_94 (fun n_96 => bO (lR V (cA 5) n_96 (x1 - (5 : Int32))) (fun p_97 => (p_97 = none → (vX2_line_c134 cA a0 MC MS Post PX x1 V kc ks)) ∧ (∀ n_99 : Nat, p_97 = some n_99 → (∃ mc_102 ms_103 : Nat, kc + mc_102 ≤ MC ∧ ks + ms_103 ≤ MS ∧ bO (vO V [2] a0) (fun o_104 => vX2_wrong cA a0 (3 : Int32) V mc_102 ms_103 (fun p_100 V_101 => bO p_100 (fun n_106 => bO (vO V_101 [4] n_106) (fun o_107 => PX 0 n_106 V_101)))))))))))))
def vX2_line_c103 (cA : Nat → ClassId) (a0 : Nat) (MC MS : Nat) (Post : VS → Prop) (PX : Nat → Nat → VS → Prop) (V : VS) (kc ks : Nat) : Prop := ∃ mc_122 ms_123 : Nat, kc + mc_122 ≤ MC ∧ ks + ms_123 ≤ MS ∧ bO (vO V [2] a0) (fun o_124 => vX2_wrong cA a0 (2 : Int32) V mc_122 ms_123 (fun p_120 V_121 => bO p_120 (fun n_126 => bO (vO V_121 [4] n_126) (fun o_127 => PX 0 n_126 V_121))))
def vX2_line_c83 (cA : Nat → ClassId) (a0 : Nat) (MC MS : Nat) (Post : VS → Prop) (PX : Nat → Nat → VS → Prop) (x1 : Int32) (V : VS) (kc ks : Nat) : Prop := (x1 = (4 : Int32) → (bO (gR V [2] a0 6) (fun p_109 => bO p_109 (fun n_111 => bO (gR V [3] n_111 3) (fun p_112 => bO p_112 (fun n_114 => bO (vO V [14] n_114) (fun o_117 => vJ2_size cA n_114 V (fun r_115 V_116 => (r_115 = (20 : Int32) → (vX2_line_c103 cA a0 MC MS Post PX V_116 kc ks)) ∧ (¬ (r_115 = (20 : Int32)) → (vX2_line_c109 cA a0 MC MS Post PX x1 V_116 kc ks)))))))))) ∧ (¬ (x1 = (4 : Int32)) → (vX2_line_c109 cA a0 MC MS Post PX x1 V kc ks))
def vX2_line_c59 (cA : Nat → ClassId) (a0 : Nat) (MC MS : Nat) (Post : VS → Prop) (PX : Nat → Nat → VS → Prop) (x1 : Int32) (V : VS) (kc ks : Nat) : Prop := w1_in x1 (2 : Int32) (3 : Int32) (fun r_10 => (r_10 = 0 → (vX2_line_c83 cA a0 MC MS Post PX x1 V kc ks)) ∧ (¬ (r_10 = 0) → (bO (gR V [2] a0 6) (fun p_129 => bO p_129 (fun n_131 => bO (gR V [3] n_131 2) (fun p_132 => bO p_132 (fun n_134 => bO (vO V [14] n_134) (fun o_137 => vJ2_size cA n_134 V (fun r_135 V_136 => (r_135 = (40 : Int32) → (vX2_line_c103 cA a0 MC MS Post PX V_136 kc ks)) ∧ (¬ (r_135 = (40 : Int32)) → (vX2_line_c83 cA a0 MC MS Post PX x1 V_136 kc ks)))))))))))
def vX2_line_c40 (cA : Nat → ClassId) (a0 : Nat) (MC MS : Nat) (Post : VS → Prop) (PX : Nat → Nat → VS → Prop) (x1 : Int32) (V : VS) (kc ks : Nat) : Prop := (x1 = (1 : Int32) → (bO (gR V [2] a0 6) (fun p_140 => bO p_140 (fun n_142 => bO (gR V [3] n_142 1) (fun p_143 => bO p_143 (fun n_145 => bO (vO V [14] n_145) (fun o_148 => vJ2_size cA n_145 V (fun r_146 V_147 => (r_146 = (5 : Int32) → (vX2_line_c103 cA a0 MC MS Post PX V_147 kc ks)) ∧ (¬ (r_146 = (5 : Int32)) → (vX2_line_c59 cA a0 MC MS Post PX x1 V_147 kc ks)))))))))) ∧ (¬ (x1 = (1 : Int32)) → (vX2_line_c59 cA a0 MC MS Post PX x1 V kc ks))
def vX2_line (cA : Nat → ClassId) (a0 : Nat) (V : VS) (MC MS : Nat) (Post : VS → Prop) (PX : Nat → Nat → VS → Prop) : Prop := bO (vO V [2] a0) (fun o_3 => vX2_isWord cA a0 (0 : Int32) (7 : Int32) V (fun r_1 V_2 => (r_1 = 0 → (∃ mc_164 ms_165 : Nat, 0 + mc_164 ≤ MC ∧ 0 + ms_165 ≤ MS ∧ bO (vO V_2 [2] a0) (fun o_166 => vX2_wrong cA a0 (1 : Int32) V_2 mc_164 ms_165 (fun p_162 V_163 => bO p_162 (fun n_168 => bO (vO V_163 [4] n_168) (fun o_169 => PX 0 n_168 V_163)))))) ∧ (¬ (r_1 = 0) → (bO (gI V_2 [2] a0 4) (fun g_6 => (g_6 = 0 → (bO (gR V_2 [2] a0 6) (fun p_151 => bO p_151 (fun n_153 => bO (gR V_2 [3] n_153 0) (fun p_154 => bO p_154 (fun n_156 => bO (vO V_2 [14] n_156) (fun o_159 => vJ2_size cA n_156 V_2 (fun r_157 V_158 => (r_157 = (8 : Int32) → (vX2_line_c103 cA a0 MC MS Post PX V_158 0 0)) ∧ (¬ (r_157 = (8 : Int32)) → (vX2_line_c40 cA a0 MC MS Post PX g_6 V_158 0 0)))))))))) ∧ (¬ (g_6 = 0) → (vX2_line_c40 cA a0 MC MS Post PX g_6 V_2 0 0)))))))
abbrev rX2_line (MC MS : Nat) : Room := { frames := 231, cells := MC, slots := MS, locals := 13522 }
theorem cdX2_line : yX2_line.cls = RX2 ∧ yX2_line.cls ≠ "java/lang/invoke/MethodHandle" ∧ yX2_line.cls ≠ "java/lang/invoke/VarHandle" ∧ (parseMethodDescriptor yX2_line.desc).map (fun d => d.parameters.length) = some 0 := by decide +kernel
set_option maxHeartbeats 4000000 in
set_option maxRecDepth 100000 in
theorem mvX2_line (l : Launch) {D : va_G} {cA : Nat → ClassId} {A : Nat → Prop} (a0 : Nat) (V : VS) (MC MS : Nat) (Post : VS → Prop) (PX : Nat → Nat → VS → Prop) (h : vX2_line cA a0 V MC MS Post PX) : vx_Met l yX2_line (ws_ yX2_line cX2_line 2 none) (rX2_line MC MS) (vPc [.ref a0] D cA A V) (va_Qv Post (vB D A) A) (vX D A PX) MC MS A := by
  refine vst (own := RX2) (by decide) rfl (Nat.le_of_ble_eq_true rfl) ?_
  intro p e s m args below meth c ls X hret hV hS hl
  obtain ⟨S, hK, hG, hA, hnm, hlocks, htab⟩ := X
  have hx := S.1
  have hb := S.2.1
  have hk : 0 ≤ MC ∧ 0 ≤ MS := ⟨Nat.zero_le _, Nat.zero_le _⟩
  have hl : lv_has ls 2 [(0, .ref a0)] := hl
  have C225 : ∀ (V : VS) (kc ks : Nat) (H : Heap) (locs : List Loc) (ls : Array Slot), HV D A V H → va_S A s.heap H locs → (kc ≤ MC ∧ ks ≤ MS) → lv_has ls 2 [(0, .ref a0)] → vX2_line_c225 cA a0 MC MS Post PX V kc ks → W p l e (rX2_line MC MS) s m args below meth c H locs kc ks (vx_MQ below (va_Qv Post (vB D A) A) (vX D A PX) args s MC MS A) (F0 m 225 ls []) := by
    intro V kc ks H locs ls hV hS hk hl h
    unfold vX2_line_c225 at h
    refine lv_aload_n hx hb dX2_line_225 rfl (lv_at hl 0 rfl) ?_
    refine lv_bipush hx hb dX2_line_226 kb_59 ?_
    obtain ⟨o_27, e_28, h⟩ := bO_e h
    refine vk_i (vr_V (As := [.int (59 : Int32)]) (rest := []) S hK hG hA hV hS e_28 rfl (mvX2_isSign l a0 (59 : Int32) V _ h) (cwV 1 S.2.2.2.2 (lw_V q893 q895 qs28 q140 q896) rfl rfl rfl cdX2_isSign ⟨Nat.le_of_ble_eq_true rfl, Nat.le_of_ble_eq_true rfl⟩) rfl hl.1 (Nat.le_of_ble_eq_true rfl) dX2_line_228 ⟨hk.1, hk.2⟩) hS (fun r_25 V_26 H locs h hV hS => ?_)
    refine lv_if_ne (tgt := 240) hx hb dX2_line_231 (by decide) (fun c_29 => ?_) (fun c_29 => ?_)
    · replace h := h.2 c_29
      refine lv_aload_n hx hb dX2_line_240 rfl (lv_at hl 0 rfl) ?_
      obtain ⟨o_32, e_33, h⟩ := bO_e h
      refine vk_v (vr_V (As := []) (rest := []) S hK hG hA hV hS e_33 rfl (mvX2_next l a0 V_26 _ h) (cwV 0 S.2.2.2.2 (lw_V q376 q378 qs1 q140 q379) rfl rfl rfl cdX2_next ⟨Nat.le_of_ble_eq_true rfl, Nat.le_of_ble_eq_true rfl⟩) rfl hl.1 (Nat.le_of_ble_eq_true rfl) dX2_line_241 ⟨hk.1, hk.2⟩) hS (fun V_31 H locs h hV hS => ?_)
      refine lv_aload_n hx hb dX2_line_244 rfl (lv_at hl 0 rfl) ?_
      obtain ⟨p_34, e_35, h⟩ := bO_e h
      refine vg_r S hK hV fX2_93 e_35 dX2_line_245 ?_
      refine lv_dup hx hb dX2_line_248 (by cases p_34 <;> rfl) ?_
      obtain ⟨n_36, z_n_36, h9⟩ := bO_e h
      clear h; subst z_n_36; have h := h9; clear h9
      obtain ⟨g_37, e_38, h⟩ := bO_e h
      refine vg_i S hK hV fX2_142 e_38 dX2_line_249 ?_
      refine lv_iconst hx hb dX2_line_252 kc_1 ?_
      refine lv_iadd hx hb dX2_line_253 ?_
      obtain ⟨V_39, e_40, h⟩ := bO_e h
      refine vp_v (v := .int (g_37 + (1 : Int32))) S hK hV hS fX2_142 (Or.inl rfl) rfl rfl e_40 dX2_line_254 (fun H locs hV hS => ?_)
      exact vx_ret (ve_v S hlocks hret hV hS h hk.1 hk.2 dX2_line_257)
    · replace h := h.1 c_29
      refine lv_aload_n hx hb dX2_line_234 rfl (lv_at hl 0 rfl) ?_
      refine lv_iconst hx hb dX2_line_235 kc_1 ?_
      obtain ⟨mc_43, ms_44, hc1, hc2, h⟩ := h
      obtain ⟨o_45, e_46, h⟩ := bO_e h
      refine vk_q (vr_V (As := [.int (1 : Int32)]) (rest := []) S hK hG hA hV hS e_46 rfl (mvX2_wrong l a0 (1 : Int32) V_26 mc_43 ms_44 _ h) (cwV 1 S.2.2.2.2 (lw_V q515 q517 qs8 q140 q518) rfl rfl rfl cdX2_wrong ⟨Nat.le_of_ble_eq_true rfl, Nat.le_of_ble_eq_true rfl⟩) rfl hl.1 (Nat.le_of_ble_eq_true rfl) dX2_line_236 ⟨hc1, hc2⟩) hS (fun p_41 V_42 H locs h hV hS => ?_)
      have hk : kc + mc_43 ≤ MC ∧ ks + ms_44 ≤ MS := ⟨hc1, hc2⟩
      obtain ⟨n_47, z_n_47, h9⟩ := bO_e h
      clear h; subst z_n_47; have h := h9; clear h9
      obtain ⟨o_48, e_49, h⟩ := bO_e h
      exact vt_F hx hb htab hlocks hK hV hS e_49 h hk.1 hk.2 dX2_line_239
  have C197 : ∀ (t0 : Int32) (V : VS) (kc ks : Nat) (H : Heap) (locs : List Loc) (ls : Array Slot), HV D A V H → va_S A s.heap H locs → (kc ≤ MC ∧ ks ≤ MS) → lv_has ls 2 [(0, .ref a0)] → vX2_line_c197 cA a0 MC MS Post PX t0 V kc ks → W p l e (rX2_line MC MS) s m args below meth c H locs kc ks (vx_MQ below (va_Qv Post (vB D A) A) (vX D A PX) args s MC MS A) (F0 m 197 ls [.int t0, .ref a0]) := by
    intro t0 V kc ks H locs ls hV hS hk hl h
    unfold vX2_line_c197 at h
    obtain ⟨mc_61, ms_62, hc1, hc2, h⟩ := h
    obtain ⟨o_63, e_64, h⟩ := bO_e h
    refine vy_v (vr_VX (As := [.int t0]) (rest := []) S hK hG hA hV hS e_64 rfl (mvX2_talk l a0 t0 V mc_61 ms_62 _ _ h) (cwV 1 S.2.2.2.2 (lw_V q762 q764 qs18 q140 q765) rfl rfl rfl cdX2_talk ⟨Nat.le_of_ble_eq_true rfl, Nat.le_of_ble_eq_true rfl⟩) rfl hl.1 (Nat.le_of_ble_eq_true rfl) dX2_line_197 ⟨hc1, hc2⟩) hS (vo_X htab hlocks hc1 hc2) (fun V_60 H locs h hV hS => ?_)
    have hk : kc + mc_61 ≤ MC ∧ ks + ms_62 ≤ MS := ⟨hc1, hc2⟩
    refine lv_goto (tgt := 225) hx hb dX2_line_200 (by decide) ?_
    exact C225 _ _ _ _ _ _ hV hS hk (lv_sub hl [0] rfl) h
  have C134 : ∀ (x1 : Int32) (V : VS) (kc ks : Nat) (H : Heap) (locs : List Loc) (ls : Array Slot), HV D A V H → va_S A s.heap H locs → (kc ≤ MC ∧ ks ≤ MS) → lv_has ls 2 [(0, .ref a0), (1, .int x1)] → vX2_line_c134 cA a0 MC MS Post PX x1 V kc ks → W p l e (rX2_line MC MS) s m args below meth c H locs kc ks (vx_MQ below (va_Qv Post (vB D A) A) (vX D A PX) args s MC MS A) (F0 m 134 ls []) := by
    intro x1 V kc ks H locs ls hV hS hk hl h
    unfold vX2_line_c134 at h
    refine lv_aload_n hx hb dX2_line_134 rfl (lv_at hl 0 rfl) ?_
    obtain ⟨o_16, e_17, h⟩ := bO_e h
    refine vk_v (vr_V (As := []) (rest := []) S hK hG hA hV hS e_17 rfl (mvX2_next l a0 V _ h) (cwV 0 S.2.2.2.2 (lw_V q376 q378 qs1 q140 q379) rfl rfl rfl cdX2_next ⟨Nat.le_of_ble_eq_true rfl, Nat.le_of_ble_eq_true rfl⟩) rfl hl.1 (Nat.le_of_ble_eq_true rfl) dX2_line_135 ⟨hk.1, hk.2⟩) hS (fun V_15 H locs h hV hS => ?_)
    refine lv_iload_n hx hb dX2_line_138 rfl (lv_at hl 1 rfl) ?_
    by_cases c_18 : x1 = 0
    · replace h := h.1 c_18
      refine lv_tableIn (tgt := 172) hx hb dX2_line_139 (by rw [c_18]; decide) (by rw [c_18]; decide) (by rw [c_18]; rfl) (by decide) ?_
      refine lv_aload_n hx hb dX2_line_172 rfl (lv_at hl 0 rfl) ?_
      obtain ⟨mc_21, ms_22, hc1, hc2, h⟩ := h
      obtain ⟨o_23, e_24, h⟩ := bO_e h
      refine vy_v (vr_VX (As := []) (rest := []) S hK hG hA hV hS e_24 rfl (mvX2_thing l a0 V_15 mc_21 ms_22 _ _ h) (cwV 0 S.2.2.2.2 (lw_V q594 q596 qs10 q140 q597) rfl rfl rfl cdX2_thing ⟨Nat.le_of_ble_eq_true rfl, Nat.le_of_ble_eq_true rfl⟩) rfl hl.1 (Nat.le_of_ble_eq_true rfl) dX2_line_173 ⟨hc1, hc2⟩) hS (vo_X htab hlocks hc1 hc2) (fun V_20 H locs h hV hS => ?_)
      have hk : kc + mc_21 ≤ MC ∧ ks + ms_22 ≤ MS := ⟨hc1, hc2⟩
      refine lv_goto (tgt := 225) hx hb dX2_line_176 (by decide) ?_
      exact C225 _ _ _ _ _ _ hV hS hk (lv_sub hl [0] rfl) h
    · replace h := h.2 c_18
      by_cases c_50 : x1 = 1
      · replace h := h.1 c_50
        refine lv_tableIn (tgt := 179) hx hb dX2_line_139 (by rw [c_50]; decide) (by rw [c_50]; decide) (by rw [c_50]; rfl) (by decide) ?_
        refine lv_aload_n hx hb dX2_line_179 rfl (lv_at hl 0 rfl) ?_
        obtain ⟨mc_53, ms_54, hc1, hc2, h⟩ := h
        obtain ⟨o_55, e_56, h⟩ := bO_e h
        refine vy_v (vr_VX (As := []) (rest := []) S hK hG hA hV hS e_56 rfl (mvX2_teller l a0 V_15 mc_53 ms_54 _ _ h) (cwV 0 S.2.2.2.2 (lw_V q726 q728 qs17 q140 q729) rfl rfl rfl cdX2_teller ⟨Nat.le_of_ble_eq_true rfl, Nat.le_of_ble_eq_true rfl⟩) rfl hl.1 (Nat.le_of_ble_eq_true rfl) dX2_line_180 ⟨hc1, hc2⟩) hS (vo_X htab hlocks hc1 hc2) (fun V_52 H locs h hV hS => ?_)
        have hk : kc + mc_53 ≤ MC ∧ ks + ms_54 ≤ MS := ⟨hc1, hc2⟩
        refine lv_goto (tgt := 225) hx hb dX2_line_183 (by decide) ?_
        exact C225 _ _ _ _ _ _ hV hS hk (lv_sub hl [0] rfl) h
      · replace h := h.2 c_50
        by_cases c_57 : x1 = 2
        · replace h := h.1 c_57
          refine lv_tableIn (tgt := 186) hx hb dX2_line_139 (by rw [c_57]; decide) (by rw [c_57]; decide) (by rw [c_57]; rfl) (by decide) ?_
          refine lv_aload_n hx hb dX2_line_186 rfl (lv_at hl 0 rfl) ?_
          refine lv_iload_n hx hb dX2_line_187 rfl (lv_at hl 1 rfl) ?_
          refine lv_iconst hx hb dX2_line_188 kc_3 ?_
          refine lv_icmp_ne (tgt := 196) hx hb dX2_line_189 (by decide) (fun c_58 => ?_) (fun c_58 => ?_)
          · replace h := h.2 c_58
            refine lv_iconst hx hb dX2_line_196 kc_0 ?_
            exact C197 _ _ _ _ _ _ _ hV hS hk (lv_sub hl [0] rfl) h
          · replace h := h.1 c_58
            refine lv_iconst hx hb dX2_line_192 kc_1 ?_
            refine lv_goto (tgt := 197) hx hb dX2_line_193 (by decide) ?_
            exact C197 _ _ _ _ _ _ _ hV hS hk (lv_sub hl [0] rfl) h
        · replace h := h.2 c_57
          by_cases c_65 : x1 = 3
          · replace h := h.1 c_65
            refine lv_tableIn (tgt := 186) hx hb dX2_line_139 (by rw [c_65]; decide) (by rw [c_65]; decide) (by rw [c_65]; rfl) (by decide) ?_
            refine lv_aload_n hx hb dX2_line_186 rfl (lv_at hl 0 rfl) ?_
            refine lv_iload_n hx hb dX2_line_187 rfl (lv_at hl 1 rfl) ?_
            refine lv_iconst hx hb dX2_line_188 kc_3 ?_
            refine lv_icmp_ne (tgt := 196) hx hb dX2_line_189 (by decide) (fun c_66 => ?_) (fun c_66 => ?_)
            · replace h := h.2 c_66
              refine lv_iconst hx hb dX2_line_196 kc_0 ?_
              exact C197 _ _ _ _ _ _ _ hV hS hk (lv_sub hl [0] rfl) h
            · replace h := h.1 c_66
              refine lv_iconst hx hb dX2_line_192 kc_1 ?_
              refine lv_goto (tgt := 197) hx hb dX2_line_193 (by decide) ?_
              exact C197 _ _ _ _ _ _ _ hV hS hk (lv_sub hl [0] rfl) h
          · replace h := h.2 c_65
            by_cases c_67 : x1 = 4
            · replace h := h.1 c_67
              refine lv_tableIn (tgt := 203) hx hb dX2_line_139 (by rw [c_67]; decide) (by rw [c_67]; decide) (by rw [c_67]; rfl) (by decide) ?_
              refine lv_aload_n hx hb dX2_line_203 rfl (lv_at hl 0 rfl) ?_
              obtain ⟨mc_70, ms_71, hc1, hc2, h⟩ := h
              obtain ⟨o_72, e_73, h⟩ := bO_e h
              refine vy_v (vr_VX (As := []) (rest := []) S hK hG hA hV hS e_73 rfl (mvX2_page l a0 V_15 mc_70 ms_71 _ _ h) (cwV 0 S.2.2.2.2 (lw_V q842 q844 qs20 q140 q845) rfl rfl rfl cdX2_page ⟨Nat.le_of_ble_eq_true rfl, Nat.le_of_ble_eq_true rfl⟩) rfl hl.1 (Nat.le_of_ble_eq_true rfl) dX2_line_204 ⟨hc1, hc2⟩) hS (vo_X htab hlocks hc1 hc2) (fun V_69 H locs h hV hS => ?_)
              have hk : kc + mc_70 ≤ MC ∧ ks + ms_71 ≤ MS := ⟨hc1, hc2⟩
              refine lv_goto (tgt := 225) hx hb dX2_line_207 (by decide) ?_
              exact C225 _ _ _ _ _ _ hV hS hk (lv_sub hl [0] rfl) h
            · replace h := h.2 c_67
              refine lv_tableOut (tgt := 210) hx hb dX2_line_139 (by have z0 := sw_n (n := 0) c_18 rfl; have z1 := sw_n (n := 1) c_50 rfl; have z2 := sw_n (n := 2) c_57 rfl; have z3 := sw_n (n := 3) c_65 rfl; have z4 := sw_n (n := 4) c_67 rfl; omega) (by decide) ?_
              refine lv_aload_n hx hb dX2_line_210 rfl (lv_at hl 0 rfl) ?_
              obtain ⟨p_74, e_75, h⟩ := bO_e h
              refine vg_r S hK hV fX2_93 e_75 dX2_line_211 ?_
              obtain ⟨n_76, z_n_76, h9⟩ := bO_e h
              clear h; subst z_n_76; have h := h9; clear h9
              obtain ⟨p_77, e_78, h⟩ := bO_e h
              refine vg_r S hK hV fX2_117 e_78 dX2_line_214 ?_
              refine lv_iload_n hx hb dX2_line_217 rfl (lv_at hl 1 rfl) ?_
              refine lv_iconst hx hb dX2_line_218 kc_5 ?_
              refine lv_isub hx hb dX2_line_219 ?_
              refine lv_aload_n hx hb dX2_line_220 rfl (lv_at hl 0 rfl) ?_
              obtain ⟨mc_79, ms_80, hc1, hc2, h⟩ := h
              obtain ⟨o_81, e_82, h⟩ := bO_e h
              refine vy_q (vr_VX (As := []) (rest := [.int (x1 - (5 : Int32)), va_rf p_77]) S hK hG hA hV hS e_82 rfl (mvX2_g0 l 220 _ _ _ _ _ _ h) (cwV 0 S.2.2.2.2 (lw_V q865 q867 qs21 q140 q868) rfl rfl rfl cdX2_or ⟨Nat.le_of_ble_eq_true rfl, Nat.le_of_ble_eq_true rfl⟩) rfl hl.1 (by cases p_77 <;> exact Nat.le_of_ble_eq_true rfl) dX2_line_221 ⟨hc1, hc2⟩) hS (vo_X htab hlocks hc1 hc2) (fun p_83 V_84 H locs h hV hS => ?_)
              have hk : kc + mc_79 ≤ MC ∧ ks + ms_80 ≤ MS := ⟨hc1, hc2⟩
              obtain ⟨n_85, z_n_85, h9⟩ := bO_e h
              clear h; subst z_n_85; have h := h9; clear h9
              obtain ⟨n_86, z_n_86, h9⟩ := bO_e h
              clear h; subst z_n_86; have h := h9; clear h9
              obtain ⟨o_88, e_89, h⟩ := bO_e h
              obtain ⟨V_87, e_90, h⟩ := bO_e h
              refine vs_r S hK hV hS 5 rfl e_89 st_SaidSo_Part e_90 dX2_line_224 (fun H locs hV hS => ?_)
              exact C225 _ _ _ _ _ _ hV hS hk (lv_sub hl [0] rfl) h
  have C109 : ∀ (x1 : Int32) (V : VS) (kc ks : Nat) (H : Heap) (locs : List Loc) (ls : Array Slot), HV D A V H → va_S A s.heap H locs → (kc ≤ MC ∧ ks ≤ MS) → lv_has ls 2 [(0, .ref a0), (1, .int x1)] → vX2_line_c109 cA a0 MC MS Post PX x1 V kc ks → W p l e (rX2_line MC MS) s m args below meth c H locs kc ks (vx_MQ below (va_Qv Post (vB D A) A) (vX D A PX) args s MC MS A) (F0 m 109 ls []) := by
    intro x1 V kc ks H locs ls hV hS hk hl h
    unfold vX2_line_c109 at h
    refine lv_iload_n hx hb dX2_line_109 rfl (lv_at hl 1 rfl) ?_
    refine lv_iconst hx hb dX2_line_110 kc_5 ?_
    refine lv_icmp_lt (tgt := 134) hx hb dX2_line_111 (by decide) (fun c_13 => ?_) (fun c_13 => ?_)
    · replace h := h.1 c_13
      exact C134 _ _ _ _ _ _ _ hV hS hk (lv_sub hl [0, 1] rfl) h
    · replace h := h.2 c_13
      refine lv_aload_n hx hb dX2_line_114 rfl (lv_at hl 0 rfl) ?_
      obtain ⟨p_91, e_92, h⟩ := bO_e h
      refine vg_r S hK hV fX2_93 e_92 dX2_line_115 ?_
      obtain ⟨n_93, z_n_93, h9⟩ := bO_e h
      clear h; subst z_n_93; have h := h9; clear h9
      obtain ⟨p_94, e_95, h⟩ := bO_e h
      refine vg_r S hK hV fX2_117 e_95 dX2_line_118 ?_
      refine lv_iload_n hx hb dX2_line_121 rfl (lv_at hl 1 rfl) ?_
      refine lv_iconst hx hb dX2_line_122 kc_5 ?_
      refine lv_isub hx hb dX2_line_123 ?_
      obtain ⟨n_96, z_n_96, h9⟩ := bO_e h
      clear h; subst z_n_96; have h := h9; clear h9
      obtain ⟨p_97, e_98, h⟩ := bO_e h
      refine vl_r S hK hV 5 rfl e_98 dX2_line_124 ?_
      rcases p_97 with _ | n_99
      · replace h := h.1 rfl
        refine lv_ifnullN (tgt := 134) hx hb dX2_line_125 (by decide) ?_
        exact C134 _ _ _ _ _ _ _ hV hS hk (lv_sub hl [0, 1] rfl) h
      · replace h := h.2 n_99 rfl
        refine lv_ifnull hx hb dX2_line_125 ?_
        refine lv_aload_n hx hb dX2_line_128 rfl (lv_at hl 0 rfl) ?_
        refine lv_iconst hx hb dX2_line_129 kc_3 ?_
        obtain ⟨mc_102, ms_103, hc1, hc2, h⟩ := h
        obtain ⟨o_104, e_105, h⟩ := bO_e h
        refine vk_q (vr_V (As := [.int (3 : Int32)]) (rest := []) S hK hG hA hV hS e_105 rfl (mvX2_wrong l a0 (3 : Int32) V mc_102 ms_103 _ h) (cwV 1 S.2.2.2.2 (lw_V q515 q517 qs8 q140 q518) rfl rfl rfl cdX2_wrong ⟨Nat.le_of_ble_eq_true rfl, Nat.le_of_ble_eq_true rfl⟩) rfl hl.1 (Nat.le_of_ble_eq_true rfl) dX2_line_130 ⟨hc1, hc2⟩) hS (fun p_100 V_101 H locs h hV hS => ?_)
        have hk : kc + mc_102 ≤ MC ∧ ks + ms_103 ≤ MS := ⟨hc1, hc2⟩
        obtain ⟨n_106, z_n_106, h9⟩ := bO_e h
        clear h; subst z_n_106; have h := h9; clear h9
        obtain ⟨o_107, e_108, h⟩ := bO_e h
        exact vt_F hx hb htab hlocks hK hV hS e_108 h hk.1 hk.2 dX2_line_133
  have C103 : ∀ (V : VS) (kc ks : Nat) (H : Heap) (locs : List Loc) (ls : Array Slot), HV D A V H → va_S A s.heap H locs → (kc ≤ MC ∧ ks ≤ MS) → lv_has ls 2 [(0, .ref a0)] → vX2_line_c103 cA a0 MC MS Post PX V kc ks → W p l e (rX2_line MC MS) s m args below meth c H locs kc ks (vx_MQ below (va_Qv Post (vB D A) A) (vX D A PX) args s MC MS A) (F0 m 103 ls []) := by
    intro V kc ks H locs ls hV hS hk hl h
    unfold vX2_line_c103 at h
    refine lv_aload_n hx hb dX2_line_103 rfl (lv_at hl 0 rfl) ?_
    refine lv_iconst hx hb dX2_line_104 kc_2 ?_
    obtain ⟨mc_122, ms_123, hc1, hc2, h⟩ := h
    obtain ⟨o_124, e_125, h⟩ := bO_e h
    refine vk_q (vr_V (As := [.int (2 : Int32)]) (rest := []) S hK hG hA hV hS e_125 rfl (mvX2_wrong l a0 (2 : Int32) V mc_122 ms_123 _ h) (cwV 1 S.2.2.2.2 (lw_V q515 q517 qs8 q140 q518) rfl rfl rfl cdX2_wrong ⟨Nat.le_of_ble_eq_true rfl, Nat.le_of_ble_eq_true rfl⟩) rfl hl.1 (Nat.le_of_ble_eq_true rfl) dX2_line_105 ⟨hc1, hc2⟩) hS (fun p_120 V_121 H locs h hV hS => ?_)
    have hk : kc + mc_122 ≤ MC ∧ ks + ms_123 ≤ MS := ⟨hc1, hc2⟩
    obtain ⟨n_126, z_n_126, h9⟩ := bO_e h
    clear h; subst z_n_126; have h := h9; clear h9
    obtain ⟨o_127, e_128, h⟩ := bO_e h
    exact vt_F hx hb htab hlocks hK hV hS e_128 h hk.1 hk.2 dX2_line_108
  have C83 : ∀ (x1 : Int32) (V : VS) (kc ks : Nat) (H : Heap) (locs : List Loc) (ls : Array Slot), HV D A V H → va_S A s.heap H locs → (kc ≤ MC ∧ ks ≤ MS) → lv_has ls 2 [(0, .ref a0), (1, .int x1)] → vX2_line_c83 cA a0 MC MS Post PX x1 V kc ks → W p l e (rX2_line MC MS) s m args below meth c H locs kc ks (vx_MQ below (va_Qv Post (vB D A) A) (vX D A PX) args s MC MS A) (F0 m 83 ls []) := by
    intro x1 V kc ks H locs ls hV hS hk hl h
    unfold vX2_line_c83 at h
    refine lv_iload_n hx hb dX2_line_83 rfl (lv_at hl 1 rfl) ?_
    refine lv_iconst hx hb dX2_line_84 kc_4 ?_
    refine lv_icmp_ne (tgt := 109) hx hb dX2_line_85 (by decide) (fun c_12 => ?_) (fun c_12 => ?_)
    · replace h := h.2 c_12
      exact C109 _ _ _ _ _ _ _ hV hS hk (lv_sub hl [0, 1] rfl) h
    · replace h := h.1 c_12
      refine lv_aload_n hx hb dX2_line_88 rfl (lv_at hl 0 rfl) ?_
      obtain ⟨p_109, e_110, h⟩ := bO_e h
      refine vg_r S hK hV fX2_93 e_110 dX2_line_89 ?_
      obtain ⟨n_111, z_n_111, h9⟩ := bO_e h
      clear h; subst z_n_111; have h := h9; clear h9
      obtain ⟨p_112, e_113, h⟩ := bO_e h
      refine vg_r S hK hV fX2_114 e_113 dX2_line_92 ?_
      obtain ⟨n_114, z_n_114, h9⟩ := bO_e h
      clear h; subst z_n_114; have h := h9; clear h9
      obtain ⟨o_117, e_118, h⟩ := bO_e h
      refine vk_i (vr_V (As := []) (rest := []) S hK hG hA hV hS e_118 rfl (mvJ2_size l n_114 V _ h) (cwV 0 S.2.2.2.2 (lw_V q590 q591 q592 q144 q593) rfl rfl rfl cdJ2_size ⟨Nat.le_of_ble_eq_true rfl, Nat.le_of_ble_eq_true rfl⟩) rfl hl.1 (Nat.le_of_ble_eq_true rfl) dX2_line_95 ⟨hk.1, hk.2⟩) hS (fun r_115 V_116 H locs h hV hS => ?_)
      refine lv_bipush hx hb dX2_line_98 kb_20 ?_
      refine lv_icmp_ne (tgt := 109) hx hb dX2_line_100 (by decide) (fun c_119 => ?_) (fun c_119 => ?_)
      · replace h := h.2 c_119
        exact C109 _ _ _ _ _ _ _ hV hS hk (lv_sub hl [0, 1] rfl) h
      · replace h := h.1 c_119
        exact C103 _ _ _ _ _ _ hV hS hk (lv_sub hl [0] rfl) h
  have C59 : ∀ (x1 : Int32) (V : VS) (kc ks : Nat) (H : Heap) (locs : List Loc) (ls : Array Slot), HV D A V H → va_S A s.heap H locs → (kc ≤ MC ∧ ks ≤ MS) → lv_has ls 2 [(0, .ref a0), (1, .int x1)] → vX2_line_c59 cA a0 MC MS Post PX x1 V kc ks → W p l e (rX2_line MC MS) s m args below meth c H locs kc ks (vx_MQ below (va_Qv Post (vB D A) A) (vX D A PX) args s MC MS A) (F0 m 59 ls []) := by
    intro x1 V kc ks H locs ls hV hS hk hl h
    unfold vX2_line_c59 at h
    refine lv_iload_n hx hb dX2_line_59 rfl (lv_at hl 1 rfl) ?_
    refine lv_iconst hx hb dX2_line_60 kc_2 ?_
    refine lv_iconst hx hb dX2_line_61 kc_3 ?_
    refine scN_i S (As := [.int x1, .int (2 : Int32), .int (3 : Int32)]) (rest := []) (mt1_in l x1 (2 : Int32) (3 : Int32) _ h) ⟨va_cnB 3 S.2.2.2.2 (lw_meth q369) rfl rfl rfl (hK.2.2.1 (_, _, _, "SaidSo") (List.mem_of_getElem? (i := 7) rfl)) (S.2.2.2.2 _ q139) cdX1_in ⟨Nat.le_of_ble_eq_true rfl, Nat.le_of_ble_eq_true rfl⟩, S.2.2.2.2 _ q368, trivial⟩ rfl rfl hl.1 (Nat.le_of_ble_eq_true rfl) dX2_line_62 ⟨hk.1, hk.2⟩ (fun r_10 h => ?_)
    refine lv_if_eq (tgt := 83) hx hb dX2_line_65 (by decide) (fun c_11 => ?_) (fun c_11 => ?_)
    · replace h := h.1 c_11
      exact C83 _ _ _ _ _ _ _ hV hS hk (lv_sub hl [0, 1] rfl) h
    · replace h := h.2 c_11
      refine lv_aload_n hx hb dX2_line_68 rfl (lv_at hl 0 rfl) ?_
      obtain ⟨p_129, e_130, h⟩ := bO_e h
      refine vg_r S hK hV fX2_93 e_130 dX2_line_69 ?_
      obtain ⟨n_131, z_n_131, h9⟩ := bO_e h
      clear h; subst z_n_131; have h := h9; clear h9
      obtain ⟨p_132, e_133, h⟩ := bO_e h
      refine vg_r S hK hV fX2_111 e_133 dX2_line_72 ?_
      obtain ⟨n_134, z_n_134, h9⟩ := bO_e h
      clear h; subst z_n_134; have h := h9; clear h9
      obtain ⟨o_137, e_138, h⟩ := bO_e h
      refine vk_i (vr_V (As := []) (rest := []) S hK hG hA hV hS e_138 rfl (mvJ2_size l n_134 V _ h) (cwV 0 S.2.2.2.2 (lw_V q590 q591 q592 q144 q593) rfl rfl rfl cdJ2_size ⟨Nat.le_of_ble_eq_true rfl, Nat.le_of_ble_eq_true rfl⟩) rfl hl.1 (Nat.le_of_ble_eq_true rfl) dX2_line_75 ⟨hk.1, hk.2⟩) hS (fun r_135 V_136 H locs h hV hS => ?_)
      refine lv_bipush hx hb dX2_line_78 kb_40 ?_
      refine lv_icmp_eq (tgt := 103) hx hb dX2_line_80 (by decide) (fun c_139 => ?_) (fun c_139 => ?_)
      · replace h := h.1 c_139
        exact C103 _ _ _ _ _ _ hV hS hk (lv_sub hl [0] rfl) h
      · replace h := h.2 c_139
        exact C83 _ _ _ _ _ _ _ hV hS hk (lv_sub hl [0, 1] rfl) h
  have C40 : ∀ (x1 : Int32) (V : VS) (kc ks : Nat) (H : Heap) (locs : List Loc) (ls : Array Slot), HV D A V H → va_S A s.heap H locs → (kc ≤ MC ∧ ks ≤ MS) → lv_has ls 2 [(0, .ref a0), (1, .int x1)] → vX2_line_c40 cA a0 MC MS Post PX x1 V kc ks → W p l e (rX2_line MC MS) s m args below meth c H locs kc ks (vx_MQ below (va_Qv Post (vB D A) A) (vX D A PX) args s MC MS A) (F0 m 40 ls []) := by
    intro x1 V kc ks H locs ls hV hS hk hl h
    unfold vX2_line_c40 at h
    refine lv_iload_n hx hb dX2_line_40 rfl (lv_at hl 1 rfl) ?_
    refine lv_iconst hx hb dX2_line_41 kc_1 ?_
    refine lv_icmp_ne (tgt := 59) hx hb dX2_line_42 (by decide) (fun c_9 => ?_) (fun c_9 => ?_)
    · replace h := h.2 c_9
      exact C59 _ _ _ _ _ _ _ hV hS hk (lv_sub hl [0, 1] rfl) h
    · replace h := h.1 c_9
      refine lv_aload_n hx hb dX2_line_45 rfl (lv_at hl 0 rfl) ?_
      obtain ⟨p_140, e_141, h⟩ := bO_e h
      refine vg_r S hK hV fX2_93 e_141 dX2_line_46 ?_
      obtain ⟨n_142, z_n_142, h9⟩ := bO_e h
      clear h; subst z_n_142; have h := h9; clear h9
      obtain ⟨p_143, e_144, h⟩ := bO_e h
      refine vg_r S hK hV fX2_108 e_144 dX2_line_49 ?_
      obtain ⟨n_145, z_n_145, h9⟩ := bO_e h
      clear h; subst z_n_145; have h := h9; clear h9
      obtain ⟨o_148, e_149, h⟩ := bO_e h
      refine vk_i (vr_V (As := []) (rest := []) S hK hG hA hV hS e_149 rfl (mvJ2_size l n_145 V _ h) (cwV 0 S.2.2.2.2 (lw_V q590 q591 q592 q144 q593) rfl rfl rfl cdJ2_size ⟨Nat.le_of_ble_eq_true rfl, Nat.le_of_ble_eq_true rfl⟩) rfl hl.1 (Nat.le_of_ble_eq_true rfl) dX2_line_52 ⟨hk.1, hk.2⟩) hS (fun r_146 V_147 H locs h hV hS => ?_)
      refine lv_iconst hx hb dX2_line_55 kc_5 ?_
      refine lv_icmp_eq (tgt := 103) hx hb dX2_line_56 (by decide) (fun c_150 => ?_) (fun c_150 => ?_)
      · replace h := h.1 c_150
        exact C103 _ _ _ _ _ _ hV hS hk (lv_sub hl [0] rfl) h
      · replace h := h.2 c_150
        exact C59 _ _ _ _ _ _ _ hV hS hk (lv_sub hl [0, 1] rfl) h
  unfold vX2_line at h
  refine lv_aload_n hx hb dX2_line_0 rfl (lv_at hl 0 rfl) ?_
  refine lv_iconst hx hb dX2_line_1 kc_0 ?_
  refine lv_bipush hx hb dX2_line_2 kb_7 ?_
  obtain ⟨o_3, e_4, h⟩ := bO_e h
  refine vk_i (vr_V (As := [.int (0 : Int32), .int (7 : Int32)]) (rest := []) S hK hG hA hV hS e_4 rfl (mvX2_isWord l a0 (0 : Int32) (7 : Int32) V _ h) (cwV 2 S.2.2.2.2 (lw_V q511 q513 qs7 q140 q514) rfl rfl rfl cdX2_isWord ⟨Nat.le_of_ble_eq_true rfl, Nat.le_of_ble_eq_true rfl⟩) rfl hl.1 (Nat.le_of_ble_eq_true rfl) dX2_line_4 ⟨hk.1, hk.2⟩) hS (fun r_1 V_2 H locs h hV hS => ?_)
  refine lv_if_ne (tgt := 16) hx hb dX2_line_7 (by decide) (fun c_5 => ?_) (fun c_5 => ?_)
  · replace h := h.2 c_5
    refine lv_aload_n hx hb dX2_line_16 rfl (lv_at hl 0 rfl) ?_
    obtain ⟨g_6, e_7, h⟩ := bO_e h
    refine vg_i S hK hV fX2_43 e_7 dX2_line_17 ?_
    refine lv_istore_n (lv' := [(1, .int g_6), (0, .ref a0)]) hx hb dX2_line_20 rfl hl (by decide) rfl (fun ls hl => ?_)
    refine lv_iload_n hx hb dX2_line_21 rfl (lv_at hl 0 rfl) ?_
    refine lv_if_ne (tgt := 40) hx hb dX2_line_22 (by decide) (fun c_8 => ?_) (fun c_8 => ?_)
    · replace h := h.2 c_8
      exact C40 _ _ _ _ _ _ _ hV hS hk (lv_sub hl [1, 0] rfl) h
    · replace h := h.1 c_8
      refine lv_aload_n hx hb dX2_line_25 rfl (lv_at hl 1 rfl) ?_
      obtain ⟨p_151, e_152, h⟩ := bO_e h
      refine vg_r S hK hV fX2_93 e_152 dX2_line_26 ?_
      obtain ⟨n_153, z_n_153, h9⟩ := bO_e h
      clear h; subst z_n_153; have h := h9; clear h9
      obtain ⟨p_154, e_155, h⟩ := bO_e h
      refine vg_r S hK hV fX2_100 e_155 dX2_line_29 ?_
      obtain ⟨n_156, z_n_156, h9⟩ := bO_e h
      clear h; subst z_n_156; have h := h9; clear h9
      obtain ⟨o_159, e_160, h⟩ := bO_e h
      refine vk_i (vr_V (As := []) (rest := []) S hK hG hA hV hS e_160 rfl (mvJ2_size l n_156 V_2 _ h) (cwV 0 S.2.2.2.2 (lw_V q590 q591 q592 q144 q593) rfl rfl rfl cdJ2_size ⟨Nat.le_of_ble_eq_true rfl, Nat.le_of_ble_eq_true rfl⟩) rfl hl.1 (Nat.le_of_ble_eq_true rfl) dX2_line_32 ⟨hk.1, hk.2⟩) hS (fun r_157 V_158 H locs h hV hS => ?_)
      refine lv_bipush hx hb dX2_line_35 kb_8 ?_
      refine lv_icmp_eq (tgt := 103) hx hb dX2_line_37 (by decide) (fun c_161 => ?_) (fun c_161 => ?_)
      · replace h := h.1 c_161
        exact C103 _ _ _ _ _ _ hV hS hk (lv_sub hl [1] rfl) h
      · replace h := h.2 c_161
        exact C40 _ _ _ _ _ _ _ hV hS hk (lv_sub hl [1, 0] rfl) h
  · replace h := h.1 c_5
    refine lv_aload_n hx hb dX2_line_10 rfl (lv_at hl 0 rfl) ?_
    refine lv_iconst hx hb dX2_line_11 kc_1 ?_
    obtain ⟨mc_164, ms_165, hc1, hc2, h⟩ := h
    obtain ⟨o_166, e_167, h⟩ := bO_e h
    refine vk_q (vr_V (As := [.int (1 : Int32)]) (rest := []) S hK hG hA hV hS e_167 rfl (mvX2_wrong l a0 (1 : Int32) V_2 mc_164 ms_165 _ h) (cwV 1 S.2.2.2.2 (lw_V q515 q517 qs8 q140 q518) rfl rfl rfl cdX2_wrong ⟨Nat.le_of_ble_eq_true rfl, Nat.le_of_ble_eq_true rfl⟩) rfl hl.1 (Nat.le_of_ble_eq_true rfl) dX2_line_12 ⟨hc1, hc2⟩) hS (fun p_162 V_163 H locs h hV hS => ?_)
    have hk : 0 + mc_164 ≤ MC ∧ 0 + ms_165 ≤ MS := ⟨hc1, hc2⟩
    obtain ⟨n_168, z_n_168, h9⟩ := bO_e h
    clear h; subst z_n_168; have h := h9; clear h9
    obtain ⟨o_169, e_170, h⟩ := bO_e h
    exact vt_F hx hb htab hlocks hK hV hS e_170 h hk.1 hk.2 dX2_line_15
def vX2_read_l30 (cA : Nat → ClassId) (a0 : Nat) (a1 : Int32) (MC MS : Nat) (Post : Option Nat → VS → Prop) (PX : Nat → Nat → VS → Prop) : Nat → VS → Nat → Nat → Prop
  | 0, _, _, _ => False
  | n + 1, V, kc, ks => bO (gI V [2] a0 3) (fun g_19 => (g_19 = (4 : Int32) → (bO (gR V [2] a0 6) (fun p_22 => Post (p_22) V))) ∧ (¬ (g_19 = (4 : Int32)) → (∃ mc_26 ms_27 : Nat, kc + mc_26 ≤ MC ∧ ks + ms_27 ≤ MS ∧ bO (vO V [2] a0) (fun o_28 => vX2_line cA a0 V mc_26 ms_27 (fun V_25 => vX2_read_l30 cA a0 a1 MC MS Post PX n V_25 (kc + mc_26) (ks + ms_27)) PX))))
def vX2_read (cA : Nat → ClassId) (a0 : Nat) (a1 : Int32) (V : VS) (MC MS : Nat) (Post : Option Nat → VS → Prop) (PX : Nat → Nat → VS → Prop) : Prop := bO (pF V [2] a0 0 (.int (0 : Int32))) (fun V_1 => bO (pF V_1 [2] a0 1 (.int a1)) (fun V_3 => bO (pF V_3 [2] a0 5 (.int (0 : Int32))) (fun V_5 => (0 + 1 ≤ MC ∧ 0 + 7 ≤ MS ∧ ∀ (q_7 : Nat) (V_8 : VS), V_5 q_7 = none → V_8 = vU V_5 q_7 (.inr (3, [.null, .null, .null, .null, .null, .int 0, .int 0])) → ∃ mc_11 ms_12 : Nat, 0 + 1 + mc_11 ≤ MC ∧ 0 + 7 + ms_12 ≤ MS ∧ vX3_init cA q_7 V_8 mc_11 ms_12 (fun V_10 => bO (pF V_10 [2] a0 6 (.ref q_7)) (fun V_13 => bO (vO V_13 [2] a0) (fun o_17 => vX2_next cA a0 V_13 (fun V_16 => ∃ f, vX2_read_l30 cA a0 a1 MC MS Post PX f V_16 (0 + 1 + mc_11) (0 + 7 + ms_12)))))))))
abbrev rX2_read (MC MS : Nat) : Room := { frames := 232, cells := MC, slots := MS, locals := 13543 }
theorem cdX2_read : yX2_read.cls = RX2 ∧ yX2_read.cls ≠ "java/lang/invoke/MethodHandle" ∧ yX2_read.cls ≠ "java/lang/invoke/VarHandle" ∧ (parseMethodDescriptor yX2_read.desc).map (fun d => d.parameters.length) = some 1 := by decide +kernel
set_option maxHeartbeats 4000000 in
set_option maxRecDepth 100000 in
theorem mvX2_read (l : Launch) {D : va_G} {cA : Nat → ClassId} {A : Nat → Prop} (a0 : Nat) (a1 : Int32) (V : VS) (MC MS : Nat) (Post : Option Nat → VS → Prop) (PX : Nat → Nat → VS → Prop) (h : vX2_read cA a0 a1 V MC MS Post PX) : vx_Met l yX2_read (ws_ yX2_read cX2_read 2 (some (.object "SaidSo$Case"))) (rX2_read MC MS) (vPc [.ref a0, .int a1] D cA A V) (va_Qq Post (vB D A) A) (vX D A PX) MC MS A := by
  refine vst (own := RX2) (by decide) rfl (Nat.le_of_ble_eq_true rfl) ?_
  intro p e s m args below meth c ls X hret hV hS hl
  obtain ⟨S, hK, hG, hA, hnm, hlocks, htab⟩ := X
  have hx := S.1
  have hb := S.2.1
  have hk : 0 ≤ MC ∧ 0 ≤ MS := ⟨Nat.zero_le _, Nat.zero_le _⟩
  have hl : lv_has ls 2 [(0, .ref a0), (1, .int a1)] := hl
  have L30 : ∀ (n : Nat) (V : VS) (kc ks : Nat) (H : Heap) (locs : List Loc) (ls : Array Slot), HV D A V H → va_S A s.heap H locs → (kc ≤ MC ∧ ks ≤ MS) → lv_has ls 2 [(0, .ref a0), (1, .int a1)] → vX2_read_l30 cA a0 a1 MC MS Post PX n V kc ks → W p l e (rX2_read MC MS) s m args below meth c H locs kc ks (vx_MQ below (va_Qq Post (vB D A) A) (vX D A PX) args s MC MS A) (F0 m 30 ls []) := by
    intro n
    induction n with
    | zero => intro V kc ks H locs ls hV hS hk hl h; rw [vX2_read_l30] at h; exact h.elim
    | succ n ih =>
      intro V kc ks H locs ls hV hS hk hl h
      rw [vX2_read_l30] at h
      refine lv_aload_n hx hb dX2_read_30 rfl (lv_at hl 0 rfl) ?_
      obtain ⟨g_19, e_20, h⟩ := bO_e h
      refine vg_i S hK hV fX2_33 e_20 dX2_read_31 ?_
      refine lv_iconst hx hb dX2_read_34 kc_4 ?_
      refine lv_icmp_eq (tgt := 45) hx hb dX2_read_35 (by decide) (fun c_21 => ?_) (fun c_21 => ?_)
      · replace h := h.1 c_21
        refine lv_aload_n hx hb dX2_read_45 rfl (lv_at hl 0 rfl) ?_
        obtain ⟨p_22, e_23, h⟩ := bO_e h
        refine vg_r S hK hV fX2_93 e_23 dX2_read_46 ?_
        exact vx_ret (ve_q (r := p_22) S hlocks hret (Or.inl ⟨_, rfl⟩) hV hS h hk.1 hk.2 dX2_read_49)
      · replace h := h.2 c_21
        refine lv_aload_n hx hb dX2_read_38 rfl (lv_at hl 0 rfl) ?_
        obtain ⟨mc_26, ms_27, hc1, hc2, h⟩ := h
        obtain ⟨o_28, e_29, h⟩ := bO_e h
        refine vy_v (vr_VX (As := []) (rest := []) S hK hG hA hV hS e_29 rfl (mvX2_line l a0 V mc_26 ms_27 _ _ h) (cwV 0 S.2.2.2.2 (lw_V q507 q509 qs6 q140 q510) rfl rfl rfl cdX2_line ⟨Nat.le_of_ble_eq_true rfl, Nat.le_of_ble_eq_true rfl⟩) rfl hl.1 (Nat.le_of_ble_eq_true rfl) dX2_read_39 ⟨hc1, hc2⟩) hS (vo_X htab hlocks hc1 hc2) (fun V_25 H locs h hV hS => ?_)
        have hk : kc + mc_26 ≤ MC ∧ ks + ms_27 ≤ MS := ⟨hc1, hc2⟩
        refine lv_goto (tgt := 30) hx hb dX2_read_42 (by decide) ?_
        exact ih _ _ _ _ _ _ hV hS hk (lv_sub hl [0, 1] rfl) h
  unfold vX2_read at h
  refine lv_aload_n hx hb dX2_read_0 rfl (lv_at hl 0 rfl) ?_
  refine lv_iconst hx hb dX2_read_1 kc_0 ?_
  obtain ⟨V_1, e_2, h⟩ := bO_e h
  refine vp_v (v := .int (0 : Int32)) S hK hV hS fX2_15 (Or.inl rfl) rfl rfl e_2 dX2_read_2 (fun H locs hV hS => ?_)
  refine lv_aload_n hx hb dX2_read_5 rfl (lv_at hl 0 rfl) ?_
  refine lv_iload_n hx hb dX2_read_6 rfl (lv_at hl 1 rfl) ?_
  obtain ⟨V_3, e_4, h⟩ := bO_e h
  refine vp_v (v := .int a1) S hK hV hS fX2_19 (Or.inl rfl) rfl rfl e_4 dX2_read_7 (fun H locs hV hS => ?_)
  refine lv_aload_n hx hb dX2_read_10 rfl (lv_at hl 0 rfl) ?_
  refine lv_iconst hx hb dX2_read_11 kc_0 ?_
  obtain ⟨V_5, e_6, h⟩ := bO_e h
  refine vp_v (v := .int (0 : Int32)) S hK hV hS fX2_87 (Or.inl rfl) rfl rfl e_6 dX2_read_12 (fun H locs hV hS => ?_)
  refine lv_aload_n hx hb dX2_read_15 rfl (lv_at hl 0 rfl) ?_
  obtain ⟨hc1, hc2, h⟩ := h
  refine vw_new (ci := 3) (fs := [.null, .null, .null, .null, .null, .int 0, .int 0]) (C := RX3) (T := TX3) (N := 7) S hK hV hS hA in_X3 tyX3 tyX3_ok q374 q216 q141 rfl (fun j hj => by first | (rcases j with _ | _ | _ | _ | _ | _ | _ | _ | _ | _ | _ | _ | _ | _ | _ | _ | _ | _ | _ | _ | _ | j <;> first | rfl | omega)) hc1 hc2 dX2_read_16 (fun q_7 V_8 H g1 g2 hV hS => ?_)
  replace h := h q_7 V_8 g1 g2
  have hk : 0 + 1 ≤ MC ∧ 0 + 7 ≤ MS := ⟨hc1, hc2⟩
  refine lv_dup hx hb dX2_read_19 rfl ?_
  obtain ⟨mc_11, ms_12, hc1, hc2, h⟩ := h
  refine vk_v (vr_IN (As := []) (rest := [.ref q_7, .ref a0]) S hK hG hA hV hS (mvX3_init l q_7 V_8 mc_11 ms_12 _ h) ⟨va_cnB 0 S.2.2.2.2 (lw_meth q219) rfl rfl rfl (hK.2.2.1 (_, _, _, "SaidSo") (List.mem_of_getElem? (i := 6) rfl)) (S.2.2.2.2 _ q141) cdX3_init ⟨Nat.le_of_ble_eq_true rfl, Nat.le_of_ble_eq_true rfl⟩, rfl, S.2.2.2.2 _ q218⟩ rfl hl.1 (Nat.le_of_ble_eq_true rfl) dX2_read_20 ⟨hc1, hc2⟩) hS (fun V_10 H locs h hV hS => ?_)
  have hk : 0 + 1 + mc_11 ≤ MC ∧ 0 + 7 + ms_12 ≤ MS := ⟨hc1, hc2⟩
  obtain ⟨V_13, e_14, h⟩ := bO_e h
  refine vp_v (v := .ref q_7) S hK hV hS fX2_93 (Or.inl rfl) (va_rf_nar (r := some q_7)).1 (va_rf_nar (r := some q_7)).2 e_14 dX2_read_23 (fun H locs hV hS => ?_)
  refine lv_aload_n hx hb dX2_read_26 rfl (lv_at hl 0 rfl) ?_
  obtain ⟨o_17, e_18, h⟩ := bO_e h
  refine vk_v (vr_V (As := []) (rest := []) S hK hG hA hV hS e_18 rfl (mvX2_next l a0 V_13 _ h) (cwV 0 S.2.2.2.2 (lw_V q376 q378 qs1 q140 q379) rfl rfl rfl cdX2_next ⟨Nat.le_of_ble_eq_true rfl, Nat.le_of_ble_eq_true rfl⟩) rfl hl.1 (Nat.le_of_ble_eq_true rfl) dX2_read_27 ⟨hk.1, hk.2⟩) hS (fun V_16 H locs h hV hS => ?_)
  obtain ⟨f, h⟩ := h
  exact L30 f _ _ _ _ _ _ hV hS hk (lv_sub hl [0, 1] rfl) h
def vX1_tell (cA : Nat → ClassId) (a0 : Nat) (a1 : Int32) (V : VS) (MC MS : Nat) (Post : Int32 → VS → Prop) (PX : Nat → Nat → VS → Prop) : Prop := bO (gI V [1] a0 1) (fun g_1 => w1_in a1 (0 : Int32) g_1 (fun r_3 => (r_3 = 0 → (Post (-2 : Int32) V)) ∧ (¬ (r_3 = 0) → (bO (pF V [1] a0 1 (.int (0 : Int32))) (fun V_5 => bO (pF V_5 [1] a0 2 (.int (0 : Int32))) (fun V_7 => bO (pF V_7 [1] a0 3 (.int (-1 : Int32))) (fun V_9 => bO (gR V_9 [1] a0 10) (fun p_11 => bO p_11 (fun n_13 => ∃ mc_16 ms_17 : Nat, 0 + mc_16 ≤ MC ∧ 0 + ms_17 ≤ MS ∧ bO (vO V_9 [2] n_13) (fun o_18 => vX2_read cA n_13 a1 V_9 mc_16 ms_17 (fun p_14 V_15 => bO (pF V_15 [1] a0 11 (va_rf p_14)) (fun V_30 => bO (pF V_30 [1] a0 4 (.int (199 : Int32))) (fun V_32 => bO (pF V_32 [1] a0 7 (.int (0 : Int32))) (fun V_34 => bO (pF V_34 [1] a0 6 (.int (0 : Int32))) (fun V_36 => bO (gR V_36 [1] a0 11) (fun p_38 => bO p_38 (fun n_40 => bO (gI V_36 [3] n_40 5) (fun g_41 => Post g_41 V_36)))))))) (fun k9 q_20 V_21 => (k9 = 0 ∧ (bO (gI V_21 [4] q_20 6) (fun g_22 => bO (pF V_21 [1] a0 2 (.int g_22)) (fun V_24 => bO (gI V_24 [4] q_20 7) (fun g_26 => bO (pF V_24 [1] a0 3 (.int g_26)) (fun V_28 => Post (-1 : Int32) V_28)))))))))))))))))
abbrev rX1_tell (MC MS : Nat) : Room := { frames := 233, cells := MC, slots := MS, locals := 13564 }
theorem cdX1_tell : yX1_tell.cls = RX1 ∧ yX1_tell.cls ≠ "java/lang/invoke/MethodHandle" ∧ yX1_tell.cls ≠ "java/lang/invoke/VarHandle" ∧ (parseMethodDescriptor yX1_tell.desc).map (fun d => d.parameters.length) = some 1 := by decide +kernel
set_option maxHeartbeats 4000000 in
set_option maxRecDepth 100000 in
theorem mvX1_tell (l : Launch) {D : va_G} {cA : Nat → ClassId} {A : Nat → Prop} (a0 : Nat) (a1 : Int32) (V : VS) (MC MS : Nat) (Post : Int32 → VS → Prop) (PX : Nat → Nat → VS → Prop) (h : vX1_tell cA a0 a1 V MC MS Post PX) : vx_Met l yX1_tell (wsW_ yX1_tell cX1_tell 3 (some (.int)) [((30 : Nat), (42 : Nat), (45 : Nat), (91 : Nat))]) (rX1_tell MC MS) (vPc [.ref a0, .int a1] D cA A V) (va_Qi Post (vB D A) A) (vX D A PX) MC MS A := by
  refine vstH (own := RX1) (by decide) rfl (Nat.le_of_ble_eq_true rfl) ?_
  intro p e s m args below meth c ls X hret hV hS hl
  obtain ⟨S, hK, hG, hA, hnm, hlocks, htab⟩ := X
  have hx := S.1
  have hb := S.2.1
  have hk : 0 ≤ MC ∧ 0 ≤ MS := ⟨Nat.zero_le _, Nat.zero_le _⟩
  have hl : lv_has ls 3 [(0, .ref a0), (1, .int a1)] := hl
  unfold vX1_tell at h
  refine lv_iload_n hx hb dX1_tell_0 rfl (lv_at hl 1 rfl) ?_
  refine lv_iconst hx hb dX1_tell_1 kc_0 ?_
  refine lv_aload_n hx hb dX1_tell_2 rfl (lv_at hl 0 rfl) ?_
  obtain ⟨g_1, e_2, h⟩ := bO_e h
  refine vg_i S hK hV fX1_73 e_2 dX1_tell_3 ?_
  refine sc_i S (As := [.int a1, .int (0 : Int32), .int g_1]) (rest := []) (mt1_in l a1 (0 : Int32) g_1 _ h) (va_cwS 3 S.2.2.2.2 (lw_S q367 q368 q139 q369) rfl rfl rfl cdX1_in ⟨Nat.le_of_ble_eq_true rfl, Nat.le_of_ble_eq_true rfl⟩) rfl rfl hl.1 (Nat.le_of_ble_eq_true rfl) dX1_tell_6 ⟨hk.1, hk.2⟩ (fun r_3 h => ?_)
  refine lv_if_ne (tgt := 15) hx hb dX1_tell_9 (by decide) (fun c_4 => ?_) (fun c_4 => ?_)
  · replace h := h.2 c_4
    refine lv_aload_n hx hb dX1_tell_15 rfl (lv_at hl 0 rfl) ?_
    refine lv_iconst hx hb dX1_tell_16 kc_0 ?_
    obtain ⟨V_5, e_6, h⟩ := bO_e h
    refine vp_v (v := .int (0 : Int32)) S hK hV hS fX1_73 (Or.inl rfl) rfl rfl e_6 dX1_tell_17 (fun H locs hV hS => ?_)
    refine lv_aload_n hx hb dX1_tell_20 rfl (lv_at hl 0 rfl) ?_
    refine lv_iconst hx hb dX1_tell_21 kc_0 ?_
    obtain ⟨V_7, e_8, h⟩ := bO_e h
    refine vp_v (v := .int (0 : Int32)) S hK hV hS fX1_84 (Or.inl rfl) rfl rfl e_8 dX1_tell_22 (fun H locs hV hS => ?_)
    refine lv_aload_n hx hb dX1_tell_25 rfl (lv_at hl 0 rfl) ?_
    refine lv_iconst hx hb dX1_tell_26 kc_m1 ?_
    obtain ⟨V_9, e_10, h⟩ := bO_e h
    refine vp_v (v := .int (-1 : Int32)) S hK hV hS fX1_21 (Or.inl rfl) rfl rfl e_10 dX1_tell_27 (fun H locs hV hS => ?_)
    refine lv_aload_n hx hb dX1_tell_30 rfl (lv_at hl 0 rfl) ?_
    refine lv_aload_n hx hb dX1_tell_31 rfl (lv_at hl 0 rfl) ?_
    obtain ⟨p_11, e_12, h⟩ := bO_e h
    refine vg_r S hK hV fX1_42 e_12 dX1_tell_32 ?_
    refine lv_iload_n hx hb dX1_tell_35 rfl (lv_at hl 1 rfl) ?_
    obtain ⟨n_13, z_n_13, h9⟩ := bO_e h
    clear h; subst z_n_13; have h := h9; clear h9
    obtain ⟨mc_16, ms_17, hc1, hc2, h⟩ := h
    obtain ⟨o_18, e_19, h⟩ := bO_e h
    refine vy_q (vr_VX (As := [.int a1]) (rest := [.ref a0]) S hK hG hA hV hS e_19 rfl (mvX2_read l n_13 a1 V_9 mc_16 ms_17 _ _ h) (cwV 1 S.2.2.2.2 (lw_V q370 q371 q372 q140 q373) rfl rfl rfl cdX2_read ⟨Nat.le_of_ble_eq_true rfl, Nat.le_of_ble_eq_true rfl⟩) rfl hl.1 (Nat.le_of_ble_eq_true rfl) dX1_tell_36 ⟨hc1, hc2⟩) hS ?_ (fun p_14 V_15 H locs h hV hS => ?_)
    · intro k9 q_20 V_21 H locs ce hp hV hS h1 h2 h3
      obtain ⟨rfl, h⟩ := hp
      refine vx_catch (E := exN 0) (name := "SaidSo$Fault") S.2.2.2.1 [] ⟨30, 42, 45, 91⟩ [] htab (fun z hz => by cases hz) (by decide) (by decide) (S.2.2.2.2 _ q366) (va_Nw.use rfl (hK.2.2.2.1 _ (List.mem_of_getElem? (i := 18) rfl))) h1 h2 h3 ?_
      refine W.eq (g2 := F0 m 45 ls [.ref q_20]) rfl ?_
      have hk : 0 + mc_16 ≤ MC ∧ 0 + ms_17 ≤ MS := ⟨hc1, hc2⟩
      refine lv_astore_n (lv' := [(2, .ref q_20), (0, .ref a0), (1, .int a1)]) hx hb dX1_tell_45 rfl hl (by decide) rfl (fun ls hl => ?_)
      refine lv_aload_n hx hb dX1_tell_46 rfl (lv_at hl 1 rfl) ?_
      refine lv_aload_n hx hb dX1_tell_47 rfl (lv_at hl 0 rfl) ?_
      obtain ⟨g_22, e_23, h⟩ := bO_e h
      refine vg_i S hK hV fX1_93 e_23 dX1_tell_48 ?_
      obtain ⟨V_24, e_25, h⟩ := bO_e h
      refine vp_v (v := .int g_22) S hK hV hS fX1_84 (Or.inl rfl) rfl rfl e_25 dX1_tell_51 (fun H locs hV hS => ?_)
      refine lv_aload_n hx hb dX1_tell_54 rfl (lv_at hl 1 rfl) ?_
      refine lv_aload_n hx hb dX1_tell_55 rfl (lv_at hl 0 rfl) ?_
      obtain ⟨g_26, e_27, h⟩ := bO_e h
      refine vg_i S hK hV fX1_96 e_27 dX1_tell_56 ?_
      obtain ⟨V_28, e_29, h⟩ := bO_e h
      refine vp_v (v := .int g_26) S hK hV hS fX1_21 (Or.inl rfl) rfl rfl e_29 dX1_tell_59 (fun H locs hV hS => ?_)
      refine lv_iconst hx hb dX1_tell_62 kc_m1 ?_
      exact vx_ret (ve_i S hlocks hret hV hS h rfl hk.1 hk.2 dX1_tell_63)
    have hk : 0 + mc_16 ≤ MC ∧ 0 + ms_17 ≤ MS := ⟨hc1, hc2⟩
    obtain ⟨V_30, e_31, h⟩ := bO_e h
    refine vp_v (v := va_rf p_14) S hK hV hS fX1_49 (Or.inl rfl) (va_rf_nar (r := p_14)).1 (va_rf_nar (r := p_14)).2 e_31 dX1_tell_39 (fun H locs hV hS => ?_)
    refine lv_goto (tgt := 64) hx hb dX1_tell_42 (by decide) ?_
    refine lv_aload_n hx hb dX1_tell_64 rfl (lv_at hl 0 rfl) ?_
    refine lv_sipush hx hb dX1_tell_65 ks_199 ?_
    obtain ⟨V_32, e_33, h⟩ := bO_e h
    refine vp_v (v := .int (199 : Int32)) S hK hV hS fX1_25 (Or.inl rfl) rfl rfl e_33 dX1_tell_68 (fun H locs hV hS => ?_)
    refine lv_aload_n hx hb dX1_tell_71 rfl (lv_at hl 0 rfl) ?_
    refine lv_iconst hx hb dX1_tell_72 kc_0 ?_
    obtain ⟨V_34, e_35, h⟩ := bO_e h
    refine vp_v (v := .int (0 : Int32)) S hK hV hS fX1_99 (Or.inl rfl) rfl rfl e_35 dX1_tell_73 (fun H locs hV hS => ?_)
    refine lv_aload_n hx hb dX1_tell_76 rfl (lv_at hl 0 rfl) ?_
    refine lv_iconst hx hb dX1_tell_77 kc_0 ?_
    obtain ⟨V_36, e_37, h⟩ := bO_e h
    refine vp_v (v := .int (0 : Int32)) S hK hV hS fX1_102 (Or.inl rfl) rfl rfl e_37 dX1_tell_78 (fun H locs hV hS => ?_)
    refine lv_aload_n hx hb dX1_tell_81 rfl (lv_at hl 0 rfl) ?_
    obtain ⟨p_38, e_39, h⟩ := bO_e h
    refine vg_r S hK hV fX1_49 e_39 dX1_tell_82 ?_
    obtain ⟨n_40, z_n_40, h9⟩ := bO_e h
    clear h; subst z_n_40; have h := h9; clear h9
    obtain ⟨g_41, e_42, h⟩ := bO_e h
    refine vg_i S hK hV fX1_105 e_42 dX1_tell_85 ?_
    exact vx_ret (ve_i S hlocks hret hV hS h rfl hk.1 hk.2 dX1_tell_88)
  · replace h := h.1 c_4
    refine lv_bipush hx hb dX1_tell_12 kb_m2 ?_
    exact vx_ret (ve_i S hlocks hret hV hS h rfl hk.1 hk.2 dX1_tell_14)
def vX0_look (cA : Nat → ClassId) (a0 : Nat) (a1 : Int32) (a2 : Int32) (a3 : Nat) (V : VS) (MC MS : Nat) (Post : Int32 → VS → Prop) (PX : Nat → Nat → VS → Prop) : Prop := ∃ mc_3 ms_4 : Nat, 0 + mc_3 ≤ MC ∧ 0 + ms_4 ≤ MS ∧ bO (vO V [1] a0) (fun o_5 => vX1_look cA a0 a1 a2 V mc_3 ms_4 (fun r_1 V_2 => bO (tJ V_2 (cA 2) a3 (0 : Int32) r_1.toInt64) (fun V_9 => Post (0 : Int32) V_9)) (fun k9 q_7 V_8 => (k9 = 2 ∧ (Post (1 : Int32) V_8)) ∨ (k9 = 3 ∧ (Post (2 : Int32) V_8))))
abbrev rX0_look (MC MS : Nat) : Room := { frames := 7, cells := MC, slots := MS, locals := 123 }
theorem cdX0_look : yX0_look.cls ≠ "java/lang/invoke/MethodHandle" ∧ yX0_look.cls ≠ "java/lang/invoke/VarHandle" ∧ (parseMethodDescriptor yX0_look.desc).map (fun d => d.parameters.length) = some 4 := by decide +kernel
set_option maxHeartbeats 4000000 in
set_option maxRecDepth 100000 in
theorem mvX0_look (l : Launch) (hT : l.stackTraces = false) {D : va_G} {cA : Nat → ClassId} {A : Nat → Prop} (a0 : Nat) (a1 : Int32) (a2 : Int32) (a3 : Nat) (V : VS) (MC MS : Nat) (Post : Int32 → VS → Prop) (PX : Nat → Nat → VS → Prop) (h : vX0_look cA a0 a1 a2 a3 V MC MS Post PX) : vx_Met l yX0_look (wsW_ yX0_look cX0_look 5 (some (.int)) [((0 : Nat), (10 : Nat), (13 : Nat), (13 : Nat)), ((0 : Nat), (10 : Nat), (17 : Nat), (15 : Nat))]) (rX0_look MC MS) (vPc [.ref a0, .int a1, .int a2, .ref a3] D cA A V) (va_Qi Post (vB D A) A) (vX D A PX) MC MS A := by
  refine vstH (own := RX0) (by decide) rfl (Nat.le_of_ble_eq_true rfl) ?_
  intro p e s m args below meth c ls X hret hV hS hl
  obtain ⟨S, hK, hG, hA, hnm, hlocks, htab⟩ := X
  have hx := S.1
  have hb := S.2.1
  have hk : 0 ≤ MC ∧ 0 ≤ MS := ⟨Nat.zero_le _, Nat.zero_le _⟩
  have hl : lv_has ls 5 [(0, .ref a0), (1, .int a1), (2, .int a2), (3, .ref a3)] := hl
  unfold vX0_look at h
  refine lv_aload_n hx hb dX0_look_0 rfl (lv_at hl 3 rfl) ?_
  refine lv_iconst hx hb dX0_look_1 kc_0 ?_
  refine lv_aload_n hx hb dX0_look_2 rfl (lv_at hl 0 rfl) ?_
  refine lv_iload_n hx hb dX0_look_3 rfl (lv_at hl 1 rfl) ?_
  refine lv_iload_n hx hb dX0_look_4 rfl (lv_at hl 2 rfl) ?_
  obtain ⟨mc_3, ms_4, hc1, hc2, h⟩ := h
  obtain ⟨o_5, e_6, h⟩ := bO_e h
  refine vy_i (vr_VX (As := [.int a1, .int a2]) (rest := [.int (0 : Int32), .ref a3]) S hK hG hA hV hS e_6 rfl (mvX1_look l hT a0 a1 a2 V mc_3 ms_4 _ _ h) (cwV 2 S.2.2.2.2 (lw_V q1362 q1363 q1364 q139 q1365) rfl rfl rfl cdX1_look ⟨Nat.le_of_ble_eq_true rfl, Nat.le_of_ble_eq_true rfl⟩) rfl hl.1 (Nat.le_of_ble_eq_true rfl) dX0_look_5 ⟨hc1, hc2⟩) hS ?_ (fun r_1 V_2 H locs h hV hS => ?_)
  · intro k9 q_7 V_8 H locs ce hp hV hS h1 h2 h3
    rcases hp with ⟨rfl, h⟩ | ⟨rfl, h⟩
    · refine vx_catch (E := exN 2) (name := "java/lang/IndexOutOfBoundsException") S.2.2.2.1 [] ⟨0, 10, 13, 13⟩ [⟨0, 10, 17, 15⟩] htab (fun z hz => by cases hz) (by decide) (by decide) (S.2.2.2.2 _ q1327) (va_Nw.use rfl (hK.2.2.2.1 _ (List.mem_of_getElem? (i := 0) rfl))) h1 h2 h3 ?_
      refine W.eq (g2 := F0 m 13 ls [.ref q_7]) rfl ?_
      have hk : 0 + mc_3 ≤ MC ∧ 0 + ms_4 ≤ MS := ⟨hc1, hc2⟩
      refine lv_astore (lv' := [(4, .ref q_7), (0, .ref a0), (1, .int a1), (2, .int a2), (3, .ref a3)]) hx hb dX0_look_13 hl (by decide) rfl (fun ls hl => ?_)
      refine lv_iconst hx hb dX0_look_15 kc_1 ?_
      exact vx_ret (ve_i S hlocks hret hV hS h rfl hk.1 hk.2 dX0_look_16)
    · refine vx_catch (E := exN 3) (name := "java/util/NoSuchElementException") S.2.2.2.1 [⟨0, 10, 13, 13⟩] ⟨0, 10, 17, 15⟩ [] htab (fun z hz => by cases List.mem_singleton.mp hz; exact Or.inr ⟨by decide, "java/lang/IndexOutOfBoundsException", S.2.2.2.2 _ q1327, hK.2.2.2.2.2.2.2⟩) (by decide) (by decide) (S.2.2.2.2 _ q1361) (va_Nw.use rfl (hK.2.2.2.1 _ (List.mem_of_getElem? (i := 1) rfl))) h1 h2 h3 ?_
      refine W.eq (g2 := F0 m 17 ls [.ref q_7]) rfl ?_
      have hk : 0 + mc_3 ≤ MC ∧ 0 + ms_4 ≤ MS := ⟨hc1, hc2⟩
      refine lv_astore (lv' := [(4, .ref q_7), (0, .ref a0), (1, .int a1), (2, .int a2), (3, .ref a3)]) hx hb dX0_look_17 hl (by decide) rfl (fun ls hl => ?_)
      refine lv_iconst hx hb dX0_look_19 kc_2 ?_
      exact vx_ret (ve_i S hlocks hret hV hS h rfl hk.1 hk.2 dX0_look_20)
  have hk : 0 + mc_3 ≤ MC ∧ 0 + ms_4 ≤ MS := ⟨hc1, hc2⟩
  refine lv_i2l hx hb dX0_look_8 rfl ?_
  obtain ⟨V_9, e_10, h⟩ := bO_e h
  refine vs_l S hK hV hS e_10 dX0_look_9 (fun H locs hV hS => ?_)
  refine lv_goto (tgt := 21) hx hb dX0_look_10 (by decide) ?_
  refine lv_iconst hx hb dX0_look_21 kc_0 ?_
  exact vx_ret (ve_i S hlocks hret hV hS h rfl hk.1 hk.2 dX0_look_22)
abbrev MSt : Type := MS
def vX4_init_c986 (cA : Nat → ClassId) (a0 : Nat) (MC MS : Nat) (Vs : VS) (Post : MSt → (Nat → Nat) → Prop) (V : VS) (kc ks : Nat) : Prop := (kc + 1 ≤ MC ∧ ks + 128 ≤ MS ∧ ∀ (q_359 : Nat) (V_360 : VS), V q_359 = none → V_360 = vU V q_359 (.inl (cA 0, 128, .inl (fun _ => 0))) → bO (pF V_360 [0] a0 42 (.ref q_359)) (fun V_361 => (kc + 1 + 1 ≤ MC ∧ ks + 128 + 128 ≤ MS ∧ ∀ (q_363 : Nat) (V_364 : VS), V_361 q_363 = none → V_364 = vU V_361 q_363 (.inl (cA 0, 128, .inl (fun _ => 0))) → bO (pF V_364 [0] a0 43 (.ref q_363)) (fun V_365 => bO (pF V_365 [0] a0 47 (.int (9 : Int32))) (fun V_367 => bO (pF V_367 [0] a0 48 (.int (1 : Int32))) (fun V_369 => bO (pF V_369 [0] a0 49 (.int (1 : Int32))) (fun V_371 => (kc + 1 + 1 + 1 ≤ MC ∧ ks + 128 + 128 + 96 ≤ MS ∧ ∀ (q_373 : Nat) (V_374 : VS), V_371 q_373 = none → V_374 = vU V_371 q_373 (.inl (cA 0, 96, .inl (fun _ => 0))) → bO (pF V_374 [0] a0 50 (.ref q_373)) (fun V_375 => (kc + 1 + 1 + 1 + 1 ≤ MC ∧ ks + 128 + 128 + 96 + 96 ≤ MS ∧ ∀ (q_377 : Nat) (V_378 : VS), V_375 q_377 = none → V_378 = vU V_375 q_377 (.inl (cA 0, 96, .inl (fun _ => 0))) → bO (pF V_378 [0] a0 51 (.ref q_377)) (fun V_379 => (kc + 1 + 1 + 1 + 1 + 1 ≤ MC ∧ ks + 128 + 128 + 96 + 96 + 20 ≤ MS ∧ ∀ (q_381 : Nat) (V_382 : VS), V_379 q_381 = none → V_382 = vU V_379 q_381 (.inl (cA 0, 20, .inl (fun _ => 0))) → bO (pF V_382 [0] a0 60 (.ref q_381)) (fun V_383 => (kc + 1 + 1 + 1 + 1 + 1 + 1 ≤ MC ∧ ks + 128 + 128 + 96 + 96 + 20 + 20 ≤ MS ∧ ∀ (q_385 : Nat) (V_386 : VS), V_383 q_385 = none → V_386 = vU V_383 q_385 (.inl (cA 0, 20, .inl (fun _ => 0))) → bO (pF V_386 [0] a0 61 (.ref q_385)) (fun V_387 => (kc + 1 + 1 + 1 + 1 + 1 + 1 + 1 ≤ MC ∧ ks + 128 + 128 + 96 + 96 + 20 + 20 + 10 ≤ MS ∧ ∀ (q_389 : Nat) (V_390 : VS), V_387 q_389 = none → V_390 = vU V_387 q_389 (.inl (cA 2, 10, .inr (.inl (fun _ => 0)))) → bO (pF V_390 [0] a0 62 (.ref q_389)) (fun V_391 => (kc + 1 + 1 + 1 + 1 + 1 + 1 + 1 + 1 ≤ MC ∧ ks + 128 + 128 + 96 + 96 + 20 + 20 + 10 + 64 ≤ MS ∧ ∀ (q_393 : Nat) (V_394 : VS), V_391 q_393 = none → V_394 = vU V_391 q_393 (.inl (cA 2, 64, .inr (.inl (fun _ => 0)))) → bO (pF V_394 [0] a0 63 (.ref q_393)) (fun V_395 => ∃ (M : MSt) (ad : Nat → Nat), V_395 a0 = some (.inr (mci, mfs ad M)) ∧ (∀ k ∈ mAF, V_395 (ad k) = some (mar cA M k)) ∧ mAd a0 ad ∧ (∀ (b : Nat) (x : va_E), Vs b = some x → V_395 b = some x ∧ b ≠ a0 ∧ ∀ k ∈ mAF, b ≠ ad k) ∧ w4_plain M (fun M1 => w4_keep M1 (fun M2 => Post M2 ad)))))))))))))))))))))
def vX4_init_c889 (cA : Nat → ClassId) (a0 : Nat) (MC MS : Nat) (Vs : VS) (Post : MSt → (Nat → Nat) → Prop) (V : VS) (kc ks : Nat) : Prop := (kc + 1 ≤ MC ∧ ks + 10 ≤ MS ∧ ∀ (q_311 : Nat) (V_312 : VS), V q_311 = none → V_312 = vU V q_311 (.inl (cA 0, 10, .inl (fun _ => 0))) → bO (pF V_312 [0] a0 30 (.ref q_311)) (fun V_313 => (kc + 1 + 1 ≤ MC ∧ ks + 10 + 120 ≤ MS ∧ ∀ (q_315 : Nat) (V_316 : VS), V_313 q_315 = none → V_316 = vU V_313 q_315 (.inl (cA 1, 120, .inl (fun _ => 0))) → bO (pF V_316 [0] a0 31 (.ref q_315)) (fun V_317 => (kc + 1 + 1 + 1 ≤ MC ∧ ks + 10 + 120 + 120 ≤ MS ∧ ∀ (q_319 : Nat) (V_320 : VS), V_317 q_319 = none → V_320 = vU V_317 q_319 (.inl (cA 0, 120, .inl (fun _ => 0))) → bO (pF V_320 [0] a0 32 (.ref q_319)) (fun V_321 => (kc + 1 + 1 + 1 + 1 ≤ MC ∧ ks + 10 + 120 + 120 + 120 ≤ MS ∧ ∀ (q_323 : Nat) (V_324 : VS), V_321 q_323 = none → V_324 = vU V_321 q_323 (.inl (cA 0, 120, .inl (fun _ => 0))) → bO (pF V_324 [0] a0 33 (.ref q_323)) (fun V_325 => (kc + 1 + 1 + 1 + 1 + 1 ≤ MC ∧ ks + 10 + 120 + 120 + 120 + 120 ≤ MS ∧ ∀ (q_327 : Nat) (V_328 : VS), V_325 q_327 = none → V_328 = vU V_325 q_327 (.inl (cA 0, 120, .inl (fun _ => 0))) → bO (pF V_328 [0] a0 34 (.ref q_327)) (fun V_329 => (kc + 1 + 1 + 1 + 1 + 1 + 1 ≤ MC ∧ ks + 10 + 120 + 120 + 120 + 120 + 120 ≤ MS ∧ ∀ (q_331 : Nat) (V_332 : VS), V_329 q_331 = none → V_332 = vU V_329 q_331 (.inl (cA 0, 120, .inl (fun _ => 0))) → bO (pF V_332 [0] a0 35 (.ref q_331)) (fun V_333 => (kc + 1 + 1 + 1 + 1 + 1 + 1 + 1 ≤ MC ∧ ks + 10 + 120 + 120 + 120 + 120 + 120 + 40 ≤ MS ∧ ∀ (q_335 : Nat) (V_336 : VS), V_333 q_335 = none → V_336 = vU V_333 q_335 (.inl (cA 0, 40, .inl (fun _ => 0))) → bO (pF V_336 [0] a0 36 (.ref q_335)) (fun V_337 => (kc + 1 + 1 + 1 + 1 + 1 + 1 + 1 + 1 ≤ MC ∧ ks + 10 + 120 + 120 + 120 + 120 + 120 + 40 + 40 ≤ MS ∧ ∀ (q_339 : Nat) (V_340 : VS), V_337 q_339 = none → V_340 = vU V_337 q_339 (.inl (cA 0, 40, .inl (fun _ => 0))) → bO (pF V_340 [0] a0 37 (.ref q_339)) (fun V_341 => (kc + 1 + 1 + 1 + 1 + 1 + 1 + 1 + 1 + 1 ≤ MC ∧ ks + 10 + 120 + 120 + 120 + 120 + 120 + 40 + 40 + 40 ≤ MS ∧ ∀ (q_343 : Nat) (V_344 : VS), V_341 q_343 = none → V_344 = vU V_341 q_343 (.inl (cA 0, 40, .inl (fun _ => 0))) → bO (pF V_344 [0] a0 38 (.ref q_343)) (fun V_345 => (kc + 1 + 1 + 1 + 1 + 1 + 1 + 1 + 1 + 1 + 1 ≤ MC ∧ ks + 10 + 120 + 120 + 120 + 120 + 120 + 40 + 40 + 40 + 6 ≤ MS ∧ ∀ (q_347 : Nat) (V_348 : VS), V_345 q_347 = none → V_348 = vU V_345 q_347 (.inl (cA 0, 6, .inl (fun _ => 0))) → bO (pF V_348 [0] a0 39 (.ref q_347)) (fun V_349 => (kc + 1 + 1 + 1 + 1 + 1 + 1 + 1 + 1 + 1 + 1 + 1 ≤ MC ∧ ks + 10 + 120 + 120 + 120 + 120 + 120 + 40 + 40 + 40 + 6 + 6 ≤ MS ∧ ∀ (q_351 : Nat) (V_352 : VS), V_349 q_351 = none → V_352 = vU V_349 q_351 (.inl (cA 0, 6, .inl (fun _ => 0))) → bO (pF V_352 [0] a0 40 (.ref q_351)) (fun V_353 => (kc + 1 + 1 + 1 + 1 + 1 + 1 + 1 + 1 + 1 + 1 + 1 + 1 ≤ MC ∧ ks + 10 + 120 + 120 + 120 + 120 + 120 + 40 + 40 + 40 + 6 + 6 + 128 ≤ MS ∧ ∀ (q_355 : Nat) (V_356 : VS), V_353 q_355 = none → V_356 = vU V_353 q_355 (.inl (cA 0, 128, .inl (fun _ => 0))) → bO (pF V_356 [0] a0 41 (.ref q_355)) (fun V_357 => vX4_init_c986 cA a0 MC MS Vs Post V_357 (kc + 1 + 1 + 1 + 1 + 1 + 1 + 1 + 1 + 1 + 1 + 1 + 1) (ks + 10 + 120 + 120 + 120 + 120 + 120 + 40 + 40 + 40 + 6 + 6 + 128)))))))))))))))))))))))))
def vX4_init_c795 (cA : Nat → ClassId) (a0 : Nat) (MC MS : Nat) (Vs : VS) (Post : MSt → (Nat → Nat) → Prop) (t0 : Nat) (V : VS) (kc ks : Nat) : Prop := bO (tI V (cA 0) t0 (130 : Int32) (115 : Int32)) (fun V_267 => bO (tI V_267 (cA 0) t0 (131 : Int32) (32 : Int32)) (fun V_269 => bO (pF V_269 [0] a0 3 (.ref t0)) (fun V_271 => bO (pF V_271 [0] a0 5 (.int (-1 : Int32))) (fun V_273 => (kc + 1 ≤ MC ∧ ks + 16 ≤ MS ∧ ∀ (q_275 : Nat) (V_276 : VS), V_273 q_275 = none → V_276 = vU V_273 q_275 (.inl (cA 0, 16, .inl (fun _ => 0))) → bO (pF V_276 [0] a0 21 (.ref q_275)) (fun V_277 => (kc + 1 + 1 ≤ MC ∧ ks + 16 + 16 ≤ MS ∧ ∀ (q_279 : Nat) (V_280 : VS), V_277 q_279 = none → V_280 = vU V_277 q_279 (.inl (cA 0, 16, .inl (fun _ => 0))) → bO (pF V_280 [0] a0 22 (.ref q_279)) (fun V_281 => (kc + 1 + 1 + 1 ≤ MC ∧ ks + 16 + 16 + 16 ≤ MS ∧ ∀ (q_283 : Nat) (V_284 : VS), V_281 q_283 = none → V_284 = vU V_281 q_283 (.inl (cA 0, 16, .inl (fun _ => 0))) → bO (pF V_284 [0] a0 23 (.ref q_283)) (fun V_285 => (kc + 1 + 1 + 1 + 1 ≤ MC ∧ ks + 16 + 16 + 16 + 16 ≤ MS ∧ ∀ (q_287 : Nat) (V_288 : VS), V_285 q_287 = none → V_288 = vU V_285 q_287 (.inl (cA 0, 16, .inl (fun _ => 0))) → bO (pF V_288 [0] a0 24 (.ref q_287)) (fun V_289 => (kc + 1 + 1 + 1 + 1 + 1 ≤ MC ∧ ks + 16 + 16 + 16 + 16 + 16 ≤ MS ∧ ∀ (q_291 : Nat) (V_292 : VS), V_289 q_291 = none → V_292 = vU V_289 q_291 (.inl (cA 0, 16, .inl (fun _ => 0))) → bO (pF V_292 [0] a0 25 (.ref q_291)) (fun V_293 => (kc + 1 + 1 + 1 + 1 + 1 + 1 ≤ MC ∧ ks + 16 + 16 + 16 + 16 + 16 + 10 ≤ MS ∧ ∀ (q_295 : Nat) (V_296 : VS), V_293 q_295 = none → V_296 = vU V_293 q_295 (.inl (cA 0, 10, .inl (fun _ => 0))) → bO (pF V_296 [0] a0 26 (.ref q_295)) (fun V_297 => (kc + 1 + 1 + 1 + 1 + 1 + 1 + 1 ≤ MC ∧ ks + 16 + 16 + 16 + 16 + 16 + 10 + 10 ≤ MS ∧ ∀ (q_299 : Nat) (V_300 : VS), V_297 q_299 = none → V_300 = vU V_297 q_299 (.inl (cA 0, 10, .inl (fun _ => 0))) → bO (pF V_300 [0] a0 27 (.ref q_299)) (fun V_301 => (kc + 1 + 1 + 1 + 1 + 1 + 1 + 1 + 1 ≤ MC ∧ ks + 16 + 16 + 16 + 16 + 16 + 10 + 10 + 10 ≤ MS ∧ ∀ (q_303 : Nat) (V_304 : VS), V_301 q_303 = none → V_304 = vU V_301 q_303 (.inl (cA 0, 10, .inl (fun _ => 0))) → bO (pF V_304 [0] a0 28 (.ref q_303)) (fun V_305 => (kc + 1 + 1 + 1 + 1 + 1 + 1 + 1 + 1 + 1 ≤ MC ∧ ks + 16 + 16 + 16 + 16 + 16 + 10 + 10 + 10 + 10 ≤ MS ∧ ∀ (q_307 : Nat) (V_308 : VS), V_305 q_307 = none → V_308 = vU V_305 q_307 (.inl (cA 0, 10, .inl (fun _ => 0))) → bO (pF V_308 [0] a0 29 (.ref q_307)) (fun V_309 => vX4_init_c889 cA a0 MC MS Vs Post V_309 (kc + 1 + 1 + 1 + 1 + 1 + 1 + 1 + 1 + 1) (ks + 16 + 16 + 16 + 16 + 16 + 10 + 10 + 10 + 10)))))))))))))))))))))))
def vX4_init_c721 (cA : Nat → ClassId) (a0 : Nat) (MC MS : Nat) (Vs : VS) (Post : MSt → (Nat → Nat) → Prop) (t0 : Nat) (V : VS) (kc ks : Nat) : Prop := bO (tI V (cA 0) t0 (118 : Int32) (110 : Int32)) (fun V_243 => bO (tI V_243 (cA 0) t0 (119 : Int32) (101 : Int32)) (fun V_245 => bO (tI V_245 (cA 0) t0 (120 : Int32) (119 : Int32)) (fun V_247 => bO (tI V_247 (cA 0) t0 (121 : Int32) (32 : Int32)) (fun V_249 => bO (tI V_249 (cA 0) t0 (122 : Int32) (112 : Int32)) (fun V_251 => bO (tI V_251 (cA 0) t0 (123 : Int32) (117 : Int32)) (fun V_253 => bO (tI V_253 (cA 0) t0 (124 : Int32) (116 : Int32)) (fun V_255 => bO (tI V_255 (cA 0) t0 (125 : Int32) (32 : Int32)) (fun V_257 => bO (tI V_257 (cA 0) t0 (126 : Int32) (108 : Int32)) (fun V_259 => bO (tI V_259 (cA 0) t0 (127 : Int32) (105 : Int32)) (fun V_261 => bO (tI V_261 (cA 0) t0 (128 : Int32) (110 : Int32)) (fun V_263 => bO (tI V_263 (cA 0) t0 (129 : Int32) (101 : Int32)) (fun V_265 => vX4_init_c795 cA a0 MC MS Vs Post t0 V_265 kc ks))))))))))))
def vX4_init_c649 (cA : Nat → ClassId) (a0 : Nat) (MC MS : Nat) (Vs : VS) (Post : MSt → (Nat → Nat) → Prop) (t0 : Nat) (V : VS) (kc ks : Nat) : Prop := bO (tI V (cA 0) t0 (106 : Int32) (114 : Int32)) (fun V_219 => bO (tI V_219 (cA 0) t0 (107 : Int32) (105 : Int32)) (fun V_221 => bO (tI V_221 (cA 0) t0 (108 : Int32) (103 : Int32)) (fun V_223 => bO (tI V_223 (cA 0) t0 (109 : Int32) (104 : Int32)) (fun V_225 => bO (tI V_225 (cA 0) t0 (110 : Int32) (116 : Int32)) (fun V_227 => bO (tI V_227 (cA 0) t0 (111 : Int32) (32 : Int32)) (fun V_229 => bO (tI V_229 (cA 0) t0 (112 : Int32) (119 : Int32)) (fun V_231 => bO (tI V_231 (cA 0) t0 (113 : Int32) (114 : Int32)) (fun V_233 => bO (tI V_233 (cA 0) t0 (114 : Int32) (111 : Int32)) (fun V_235 => bO (tI V_235 (cA 0) t0 (115 : Int32) (110 : Int32)) (fun V_237 => bO (tI V_237 (cA 0) t0 (116 : Int32) (103 : Int32)) (fun V_239 => bO (tI V_239 (cA 0) t0 (117 : Int32) (32 : Int32)) (fun V_241 => vX4_init_c721 cA a0 MC MS Vs Post t0 V_241 kc ks))))))))))))
def vX4_init_c577 (cA : Nat → ClassId) (a0 : Nat) (MC MS : Nat) (Vs : VS) (Post : MSt → (Nat → Nat) → Prop) (t0 : Nat) (V : VS) (kc ks : Nat) : Prop := bO (tI V (cA 0) t0 (94 : Int32) (102 : Int32)) (fun V_195 => bO (tI V_195 (cA 0) t0 (95 : Int32) (102 : Int32)) (fun V_197 => bO (tI V_197 (cA 0) t0 (96 : Int32) (32 : Int32)) (fun V_199 => bO (tI V_199 (cA 0) t0 (97 : Int32) (97 : Int32)) (fun V_201 => bO (tI V_201 (cA 0) t0 (98 : Int32) (115 : Int32)) (fun V_203 => bO (tI V_203 (cA 0) t0 (99 : Int32) (107 : Int32)) (fun V_205 => bO (tI V_205 (cA 0) t0 (100 : Int32) (115 : Int32)) (fun V_207 => bO (tI V_207 (cA 0) t0 (101 : Int32) (32 : Int32)) (fun V_209 => bO (tI V_209 (cA 0) t0 (102 : Int32) (108 : Int32)) (fun V_211 => bO (tI V_211 (cA 0) t0 (103 : Int32) (101 : Int32)) (fun V_213 => bO (tI V_213 (cA 0) t0 (104 : Int32) (100 : Int32)) (fun V_215 => bO (tI V_215 (cA 0) t0 (105 : Int32) (32 : Int32)) (fun V_217 => vX4_init_c649 cA a0 MC MS Vs Post t0 V_217 kc ks))))))))))))
def vX4_init_c505 (cA : Nat → ClassId) (a0 : Nat) (MC MS : Nat) (Vs : VS) (Post : MSt → (Nat → Nat) → Prop) (t0 : Nat) (V : VS) (kc ks : Nat) : Prop := bO (tI V (cA 0) t0 (82 : Int32) (32 : Int32)) (fun V_171 => bO (tI V_171 (cA 0) t0 (83 : Int32) (97 : Int32)) (fun V_173 => bO (tI V_173 (cA 0) t0 (84 : Int32) (103 : Int32)) (fun V_175 => bO (tI V_175 (cA 0) t0 (85 : Int32) (101 : Int32)) (fun V_177 => bO (tI V_177 (cA 0) t0 (86 : Int32) (32 : Int32)) (fun V_179 => bO (tI V_179 (cA 0) t0 (87 : Int32) (104 : Int32)) (fun V_181 => bO (tI V_181 (cA 0) t0 (88 : Int32) (111 : Int32)) (fun V_183 => bO (tI V_183 (cA 0) t0 (89 : Int32) (117 : Int32)) (fun V_185 => bO (tI V_185 (cA 0) t0 (90 : Int32) (114 : Int32)) (fun V_187 => bO (tI V_187 (cA 0) t0 (91 : Int32) (115 : Int32)) (fun V_189 => bO (tI V_189 (cA 0) t0 (92 : Int32) (32 : Int32)) (fun V_191 => bO (tI V_191 (cA 0) t0 (93 : Int32) (111 : Int32)) (fun V_193 => vX4_init_c577 cA a0 MC MS Vs Post t0 V_193 kc ks))))))))))))
def vX4_init_c433 (cA : Nat → ClassId) (a0 : Nat) (MC MS : Nat) (Vs : VS) (Post : MSt → (Nat → Nat) → Prop) (t0 : Nat) (V : VS) (kc ks : Nat) : Prop := bO (tI V (cA 0) t0 (70 : Int32) (101 : Int32)) (fun V_147 => bO (tI V_147 (cA 0) t0 (71 : Int32) (32 : Int32)) (fun V_149 => bO (tI V_149 (cA 0) t0 (72 : Int32) (97 : Int32)) (fun V_151 => bO (tI V_151 (cA 0) t0 (73 : Int32) (110 : Int32)) (fun V_153 => bO (tI V_153 (cA 0) t0 (74 : Int32) (100 : Int32)) (fun V_155 => bO (tI V_155 (cA 0) t0 (75 : Int32) (32 : Int32)) (fun V_157 => bO (tI V_157 (cA 0) t0 (76 : Int32) (111 : Int32)) (fun V_159 => bO (tI V_159 (cA 0) t0 (77 : Int32) (114 : Int32)) (fun V_161 => bO (tI V_161 (cA 0) t0 (78 : Int32) (32 : Int32)) (fun V_163 => bO (tI V_163 (cA 0) t0 (79 : Int32) (110 : Int32)) (fun V_165 => bO (tI V_165 (cA 0) t0 (80 : Int32) (111 : Int32)) (fun V_167 => bO (tI V_167 (cA 0) t0 (81 : Int32) (116 : Int32)) (fun V_169 => vX4_init_c505 cA a0 MC MS Vs Post t0 V_169 kc ks))))))))))))
def vX4_init_c361 (cA : Nat → ClassId) (a0 : Nat) (MC MS : Nat) (Vs : VS) (Post : MSt → (Nat → Nat) → Prop) (t0 : Nat) (V : VS) (kc ks : Nat) : Prop := bO (tI V (cA 0) t0 (58 : Int32) (105 : Int32)) (fun V_123 => bO (tI V_123 (cA 0) t0 (59 : Int32) (110 : Int32)) (fun V_125 => bO (tI V_125 (cA 0) t0 (60 : Int32) (115 : Int32)) (fun V_127 => bO (tI V_127 (cA 0) t0 (61 : Int32) (32 : Int32)) (fun V_129 => bO (tI V_129 (cA 0) t0 (62 : Int32) (101 : Int32)) (fun V_131 => bO (tI V_131 (cA 0) t0 (63 : Int32) (110 : Int32)) (fun V_133 => bO (tI V_133 (cA 0) t0 (64 : Int32) (100 : Int32)) (fun V_135 => bO (tI V_135 (cA 0) t0 (65 : Int32) (115 : Int32)) (fun V_137 => bO (tI V_137 (cA 0) t0 (66 : Int32) (32 : Int32)) (fun V_139 => bO (tI V_139 (cA 0) t0 (67 : Int32) (116 : Int32)) (fun V_141 => bO (tI V_141 (cA 0) t0 (68 : Int32) (97 : Int32)) (fun V_143 => bO (tI V_143 (cA 0) t0 (69 : Int32) (112 : Int32)) (fun V_145 => vX4_init_c433 cA a0 MC MS Vs Post t0 V_145 kc ks))))))))))))
def vX4_init_c289 (cA : Nat → ClassId) (a0 : Nat) (MC MS : Nat) (Vs : VS) (Post : MSt → (Nat → Nat) → Prop) (t0 : Nat) (V : VS) (kc ks : Nat) : Prop := bO (tI V (cA 0) t0 (46 : Int32) (114 : Int32)) (fun V_99 => bO (tI V_99 (cA 0) t0 (47 : Int32) (32 : Int32)) (fun V_101 => bO (tI V_101 (cA 0) t0 (48 : Int32) (112 : Int32)) (fun V_103 => bO (tI V_103 (cA 0) t0 (49 : Int32) (111 : Int32)) (fun V_105 => bO (tI V_105 (cA 0) t0 (50 : Int32) (108 : Int32)) (fun V_107 => bO (tI V_107 (cA 0) t0 (51 : Int32) (105 : Int32)) (fun V_109 => bO (tI V_109 (cA 0) t0 (52 : Int32) (99 : Int32)) (fun V_111 => bO (tI V_111 (cA 0) t0 (53 : Int32) (101 : Int32)) (fun V_113 => bO (tI V_113 (cA 0) t0 (54 : Int32) (32 : Int32)) (fun V_115 => bO (tI V_115 (cA 0) t0 (55 : Int32) (98 : Int32)) (fun V_117 => bO (tI V_117 (cA 0) t0 (56 : Int32) (101 : Int32)) (fun V_119 => bO (tI V_119 (cA 0) t0 (57 : Int32) (103 : Int32)) (fun V_121 => vX4_init_c361 cA a0 MC MS Vs Post t0 V_121 kc ks))))))))))))
def vX4_init_c217 (cA : Nat → ClassId) (a0 : Nat) (MC MS : Nat) (Vs : VS) (Post : MSt → (Nat → Nat) → Prop) (t0 : Nat) (V : VS) (kc ks : Nat) : Prop := bO (tI V (cA 0) t0 (34 : Int32) (106 : Int32)) (fun V_75 => bO (tI V_75 (cA 0) t0 (35 : Int32) (117 : Int32)) (fun V_77 => bO (tI V_77 (cA 0) t0 (36 : Int32) (114 : Int32)) (fun V_79 => bO (tI V_79 (cA 0) t0 (37 : Int32) (121 : Int32)) (fun V_81 => bO (tI V_81 (cA 0) t0 (38 : Int32) (32 : Int32)) (fun V_83 => bO (tI V_83 (cA 0) t0 (39 : Int32) (105 : Int32)) (fun V_85 => bO (tI V_85 (cA 0) t0 (40 : Int32) (115 : Int32)) (fun V_87 => bO (tI V_87 (cA 0) t0 (41 : Int32) (32 : Int32)) (fun V_89 => bO (tI V_89 (cA 0) t0 (42 : Int32) (112 : Int32)) (fun V_91 => bO (tI V_91 (cA 0) t0 (43 : Int32) (97 : Int32)) (fun V_93 => bO (tI V_93 (cA 0) t0 (44 : Int32) (112 : Int32)) (fun V_95 => bO (tI V_95 (cA 0) t0 (45 : Int32) (101 : Int32)) (fun V_97 => vX4_init_c289 cA a0 MC MS Vs Post t0 V_97 kc ks))))))))))))
def vX4_init_c145 (cA : Nat → ClassId) (a0 : Nat) (MC MS : Nat) (Vs : VS) (Post : MSt → (Nat → Nat) → Prop) (t0 : Nat) (V : VS) (kc ks : Nat) : Prop := bO (tI V (cA 0) t0 (22 : Int32) (97 : Int32)) (fun V_51 => bO (tI V_51 (cA 0) t0 (23 : Int32) (103 : Int32)) (fun V_53 => bO (tI V_53 (cA 0) t0 (24 : Int32) (101 : Int32)) (fun V_55 => bO (tI V_55 (cA 0) t0 (25 : Int32) (32 : Int32)) (fun V_57 => bO (tI V_57 (cA 0) t0 (26 : Int32) (108 : Int32)) (fun V_59 => bO (tI V_59 (cA 0) t0 (27 : Int32) (97 : Int32)) (fun V_61 => bO (tI V_61 (cA 0) t0 (28 : Int32) (119 : Int32)) (fun V_63 => bO (tI V_63 (cA 0) t0 (29 : Int32) (32 : Int32)) (fun V_65 => bO (tI V_65 (cA 0) t0 (30 : Int32) (98 : Int32)) (fun V_67 => bO (tI V_67 (cA 0) t0 (31 : Int32) (97 : Int32)) (fun V_69 => bO (tI V_69 (cA 0) t0 (32 : Int32) (114 : Int32)) (fun V_71 => bO (tI V_71 (cA 0) t0 (33 : Int32) (32 : Int32)) (fun V_73 => vX4_init_c217 cA a0 MC MS Vs Post t0 V_73 kc ks))))))))))))
def vX4_init_c73 (cA : Nat → ClassId) (a0 : Nat) (MC MS : Nat) (Vs : VS) (Post : MSt → (Nat → Nat) → Prop) (t0 : Nat) (V : VS) (kc ks : Nat) : Prop := bO (tI V (cA 0) t0 (10 : Int32) (101 : Int32)) (fun V_27 => bO (tI V_27 (cA 0) t0 (11 : Int32) (114 : Int32)) (fun V_29 => bO (tI V_29 (cA 0) t0 (12 : Int32) (32 : Int32)) (fun V_31 => bO (tI V_31 (cA 0) t0 (13 : Int32) (97 : Int32)) (fun V_33 => bO (tI V_33 (cA 0) t0 (14 : Int32) (115 : Int32)) (fun V_35 => bO (tI V_35 (cA 0) t0 (15 : Int32) (107 : Int32)) (fun V_37 => bO (tI V_37 (cA 0) t0 (16 : Int32) (32 : Int32)) (fun V_39 => bO (tI V_39 (cA 0) t0 (17 : Int32) (115 : Int32)) (fun V_41 => bO (tI V_41 (cA 0) t0 (18 : Int32) (97 : Int32)) (fun V_43 => bO (tI V_43 (cA 0) t0 (19 : Int32) (121 : Int32)) (fun V_45 => bO (tI V_45 (cA 0) t0 (20 : Int32) (32 : Int32)) (fun V_47 => bO (tI V_47 (cA 0) t0 (21 : Int32) (112 : Int32)) (fun V_49 => vX4_init_c145 cA a0 MC MS Vs Post t0 V_49 kc ks))))))))))))
def vX4_init (cA : Nat → ClassId) (a0 : Nat) (V : VS) (MC MS : Nat) (Vs : VS) (Post : MSt → (Nat → Nat) → Prop) : Prop := (0 + 1 ≤ MC ∧ 0 + 800 ≤ MS ∧ ∀ (q_1 : Nat) (V_2 : VS), V q_1 = none → V_2 = vU V q_1 (.inl (cA 0, 800, .inl (fun _ => 0))) → bO (pF V_2 [0] a0 0 (.ref q_1)) (fun V_3 => (0 + 1 + 1 ≤ MC ∧ 0 + 800 + 132 ≤ MS ∧ ∀ (q_5 : Nat) (V_6 : VS), V_3 q_5 = none → V_6 = vU V_3 q_5 (.inl (cA 0, 132, .inl (fun _ => 0))) → bO (tI V_6 (cA 0) q_5 (0 : Int32) (116 : Int32)) (fun V_7 => bO (tI V_7 (cA 0) q_5 (1 : Int32) (104 : Int32)) (fun V_9 => bO (tI V_9 (cA 0) q_5 (2 : Int32) (105 : Int32)) (fun V_11 => bO (tI V_11 (cA 0) q_5 (3 : Int32) (110 : Int32)) (fun V_13 => bO (tI V_13 (cA 0) q_5 (4 : Int32) (103 : Int32)) (fun V_15 => bO (tI V_15 (cA 0) q_5 (5 : Int32) (32 : Int32)) (fun V_17 => bO (tI V_17 (cA 0) q_5 (6 : Int32) (116 : Int32)) (fun V_19 => bO (tI V_19 (cA 0) q_5 (7 : Int32) (101 : Int32)) (fun V_21 => bO (tI V_21 (cA 0) q_5 (8 : Int32) (108 : Int32)) (fun V_23 => bO (tI V_23 (cA 0) q_5 (9 : Int32) (108 : Int32)) (fun V_25 => vX4_init_c73 cA a0 MC MS Vs Post q_5 V_25 (0 + 1 + 1) (0 + 800 + 132))))))))))))))
abbrev rX4_init (MC MS : Nat) : Room := { frames := 2, cells := MC, slots := MS, locals := 43 }
theorem cdX4_init : yX4_init.cls ≠ "java/lang/invoke/MethodHandle" ∧ yX4_init.cls ≠ "java/lang/invoke/VarHandle" ∧ (parseMethodDescriptor yX4_init.desc).map (fun d => d.parameters.length) = some 0 := by decide +kernel
set_option maxHeartbeats 4000000 in
set_option maxRecDepth 100000 in
theorem mvX4_init (l : Launch) {D : va_G} {cA : Nat → ClassId} {A : Nat → Prop} (a0 : Nat) (V : VS) (MC MS : Nat) (Vs : VS) (Post : MSt → (Nat → Nat) → Prop) (h : vX4_init cA a0 V MC MS Vs Post) : Met l yX4_init (ws_ yX4_init cX4_init 1 none) (rX4_init MC MS) (vPc [.ref a0] D cA A V) (va_Qv (S := MSt × (Nat → Nat)) (fun u => Post u.1 u.2) (fun u t => mAd a0 u.2 ∧ va_P D vwCl (mo cA a0 u.2 u.1) t.heap ∧ HV D A Vs t.heap ∧ ∀ k ∈ mAF, A (u.2 k)) A) MC MS A := by
  refine vstM (own := RX4) (by decide) rfl (Nat.le_of_ble_eq_true rfl) ?_
  intro p e s m args below meth c ls X hret hV hS hl
  obtain ⟨S, hK, hG, hA, hnm, hlocks⟩ := X
  have hx := S.1
  have hb := S.2.1
  have hk : 0 ≤ MC ∧ 0 ≤ MS := ⟨Nat.zero_le _, Nat.zero_le _⟩
  have hl : lv_has ls 1 [(0, .ref a0)] := hl
  have C986 : ∀ (V : VS) (kc ks : Nat) (H : Heap) (locs : List Loc) (ls : Array Slot), HV D A V H → va_S A s.heap H locs → (kc ≤ MC ∧ ks ≤ MS) → lv_has ls 1 [(0, .ref a0)] → vX4_init_c986 cA a0 MC MS Vs Post V kc ks → W p l e (rX4_init MC MS) s m args below meth c H locs kc ks (MQ below (va_Qv (S := MSt × (Nat → Nat)) (fun u => Post u.1 u.2) (fun u t => mAd a0 u.2 ∧ va_P D vwCl (mo cA a0 u.2 u.1) t.heap ∧ HV D A Vs t.heap ∧ ∀ k ∈ mAF, A (u.2 k)) A) args s MC MS A) (F0 m 986 ls []) := by
    intro V kc ks H locs ls hV hS hk hl h
    unfold vX4_init_c986 at h
    refine lv_aload_n hx hb dX4_init_986 rfl (lv_at hl 0 rfl) ?_
    refine lv_sipush hx hb dX4_init_987 ks_128 ?_
    obtain ⟨hc1, hc2, h⟩ := h
    refine vw_arr (atype := .int) (ty := .int) (N' := 128) (a0 := (128, .inl (fun _ => 0))) S hK hV hS hA 0 q353 rfl rfl (fun C h => by cases h) (fun cA => rfl) (by decide) (by decide) (by decide) hc1 hc2 dX4_init_990 (fun q_359 V_360 H g1 g2 hV hS => ?_)
    replace h := h q_359 V_360 g1 g2
    have hk : kc + 1 ≤ MC ∧ ks + 128 ≤ MS := ⟨hc1, hc2⟩
    obtain ⟨V_361, e_362, h⟩ := bO_e h
    refine vp_v (v := .ref q_359) S hK hV hS fX4_84 (Or.inr ⟨hnm, by decide +kernel, by decide +kernel⟩) (va_rf_narA (r := some q_359)).1 (va_rf_narA (r := some q_359)).2 e_362 dX4_init_992 (fun H locs hV hS => ?_)
    refine lv_aload_n hx hb dX4_init_995 rfl (lv_at hl 0 rfl) ?_
    refine lv_sipush hx hb dX4_init_996 ks_128 ?_
    obtain ⟨hc1, hc2, h⟩ := h
    refine vw_arr (atype := .int) (ty := .int) (N' := 128) (a0 := (128, .inl (fun _ => 0))) S hK hV hS hA 0 q353 rfl rfl (fun C h => by cases h) (fun cA => rfl) (by decide) (by decide) (by decide) hc1 hc2 dX4_init_999 (fun q_363 V_364 H g1 g2 hV hS => ?_)
    replace h := h q_363 V_364 g1 g2
    have hk : kc + 1 + 1 ≤ MC ∧ ks + 128 + 128 ≤ MS := ⟨hc1, hc2⟩
    obtain ⟨V_365, e_366, h⟩ := bO_e h
    refine vp_v (v := .ref q_363) S hK hV hS fX4_87 (Or.inr ⟨hnm, by decide +kernel, by decide +kernel⟩) (va_rf_narA (r := some q_363)).1 (va_rf_narA (r := some q_363)).2 e_366 dX4_init_1001 (fun H locs hV hS => ?_)
    refine lv_aload_n hx hb dX4_init_1004 rfl (lv_at hl 0 rfl) ?_
    refine lv_bipush hx hb dX4_init_1005 kb_9 ?_
    obtain ⟨V_367, e_368, h⟩ := bO_e h
    refine vp_v (v := .int (9 : Int32)) S hK hV hS fX4_90 (Or.inl rfl) rfl rfl e_368 dX4_init_1007 (fun H locs hV hS => ?_)
    refine lv_aload_n hx hb dX4_init_1010 rfl (lv_at hl 0 rfl) ?_
    refine lv_iconst hx hb dX4_init_1011 kc_1 ?_
    obtain ⟨V_369, e_370, h⟩ := bO_e h
    refine vp_v (v := .int (1 : Int32)) S hK hV hS fX4_93 (Or.inl rfl) rfl rfl e_370 dX4_init_1012 (fun H locs hV hS => ?_)
    refine lv_aload_n hx hb dX4_init_1015 rfl (lv_at hl 0 rfl) ?_
    refine lv_iconst hx hb dX4_init_1016 kc_1 ?_
    obtain ⟨V_371, e_372, h⟩ := bO_e h
    refine vp_v (v := .int (1 : Int32)) S hK hV hS fX4_96 (Or.inl rfl) rfl rfl e_372 dX4_init_1017 (fun H locs hV hS => ?_)
    refine lv_aload_n hx hb dX4_init_1020 rfl (lv_at hl 0 rfl) ?_
    refine lv_bipush hx hb dX4_init_1021 kb_96 ?_
    obtain ⟨hc1, hc2, h⟩ := h
    refine vw_arr (atype := .int) (ty := .int) (N' := 96) (a0 := (96, .inl (fun _ => 0))) S hK hV hS hA 0 q353 rfl rfl (fun C h => by cases h) (fun cA => rfl) (by decide) (by decide) (by decide) hc1 hc2 dX4_init_1023 (fun q_373 V_374 H g1 g2 hV hS => ?_)
    replace h := h q_373 V_374 g1 g2
    have hk : kc + 1 + 1 + 1 ≤ MC ∧ ks + 128 + 128 + 96 ≤ MS := ⟨hc1, hc2⟩
    obtain ⟨V_375, e_376, h⟩ := bO_e h
    refine vp_v (v := .ref q_373) S hK hV hS fX4_99 (Or.inr ⟨hnm, by decide +kernel, by decide +kernel⟩) (va_rf_narA (r := some q_373)).1 (va_rf_narA (r := some q_373)).2 e_376 dX4_init_1025 (fun H locs hV hS => ?_)
    refine lv_aload_n hx hb dX4_init_1028 rfl (lv_at hl 0 rfl) ?_
    refine lv_bipush hx hb dX4_init_1029 kb_96 ?_
    obtain ⟨hc1, hc2, h⟩ := h
    refine vw_arr (atype := .int) (ty := .int) (N' := 96) (a0 := (96, .inl (fun _ => 0))) S hK hV hS hA 0 q353 rfl rfl (fun C h => by cases h) (fun cA => rfl) (by decide) (by decide) (by decide) hc1 hc2 dX4_init_1031 (fun q_377 V_378 H g1 g2 hV hS => ?_)
    replace h := h q_377 V_378 g1 g2
    have hk : kc + 1 + 1 + 1 + 1 ≤ MC ∧ ks + 128 + 128 + 96 + 96 ≤ MS := ⟨hc1, hc2⟩
    obtain ⟨V_379, e_380, h⟩ := bO_e h
    refine vp_v (v := .ref q_377) S hK hV hS fX4_102 (Or.inr ⟨hnm, by decide +kernel, by decide +kernel⟩) (va_rf_narA (r := some q_377)).1 (va_rf_narA (r := some q_377)).2 e_380 dX4_init_1033 (fun H locs hV hS => ?_)
    refine lv_aload_n hx hb dX4_init_1036 rfl (lv_at hl 0 rfl) ?_
    refine lv_bipush hx hb dX4_init_1037 kb_20 ?_
    obtain ⟨hc1, hc2, h⟩ := h
    refine vw_arr (atype := .int) (ty := .int) (N' := 20) (a0 := (20, .inl (fun _ => 0))) S hK hV hS hA 0 q353 rfl rfl (fun C h => by cases h) (fun cA => rfl) (by decide) (by decide) (by decide) hc1 hc2 dX4_init_1039 (fun q_381 V_382 H g1 g2 hV hS => ?_)
    replace h := h q_381 V_382 g1 g2
    have hk : kc + 1 + 1 + 1 + 1 + 1 ≤ MC ∧ ks + 128 + 128 + 96 + 96 + 20 ≤ MS := ⟨hc1, hc2⟩
    obtain ⟨V_383, e_384, h⟩ := bO_e h
    refine vp_v (v := .ref q_381) S hK hV hS fX4_105 (Or.inr ⟨hnm, by decide +kernel, by decide +kernel⟩) (va_rf_narA (r := some q_381)).1 (va_rf_narA (r := some q_381)).2 e_384 dX4_init_1041 (fun H locs hV hS => ?_)
    refine lv_aload_n hx hb dX4_init_1044 rfl (lv_at hl 0 rfl) ?_
    refine lv_bipush hx hb dX4_init_1045 kb_20 ?_
    obtain ⟨hc1, hc2, h⟩ := h
    refine vw_arr (atype := .int) (ty := .int) (N' := 20) (a0 := (20, .inl (fun _ => 0))) S hK hV hS hA 0 q353 rfl rfl (fun C h => by cases h) (fun cA => rfl) (by decide) (by decide) (by decide) hc1 hc2 dX4_init_1047 (fun q_385 V_386 H g1 g2 hV hS => ?_)
    replace h := h q_385 V_386 g1 g2
    have hk : kc + 1 + 1 + 1 + 1 + 1 + 1 ≤ MC ∧ ks + 128 + 128 + 96 + 96 + 20 + 20 ≤ MS := ⟨hc1, hc2⟩
    obtain ⟨V_387, e_388, h⟩ := bO_e h
    refine vp_v (v := .ref q_385) S hK hV hS fX4_108 (Or.inr ⟨hnm, by decide +kernel, by decide +kernel⟩) (va_rf_narA (r := some q_385)).1 (va_rf_narA (r := some q_385)).2 e_388 dX4_init_1049 (fun H locs hV hS => ?_)
    refine lv_aload_n hx hb dX4_init_1052 rfl (lv_at hl 0 rfl) ?_
    refine lv_bipush hx hb dX4_init_1053 kb_10 ?_
    obtain ⟨hc1, hc2, h⟩ := h
    refine vw_arr (atype := .long) (ty := .long) (N' := 10) (a0 := (10, .inr (.inl (fun _ => 0)))) S hK hV hS hA 2 q352 rfl rfl (fun C h => by cases h) (fun cA => rfl) (by decide) (by decide) (by decide) hc1 hc2 dX4_init_1055 (fun q_389 V_390 H g1 g2 hV hS => ?_)
    replace h := h q_389 V_390 g1 g2
    have hk : kc + 1 + 1 + 1 + 1 + 1 + 1 + 1 ≤ MC ∧ ks + 128 + 128 + 96 + 96 + 20 + 20 + 10 ≤ MS := ⟨hc1, hc2⟩
    obtain ⟨V_391, e_392, h⟩ := bO_e h
    refine vp_v (v := .ref q_389) S hK hV hS fX4_111 (Or.inr ⟨hnm, by decide +kernel, by decide +kernel⟩) (va_rf_narA (r := some q_389)).1 (va_rf_narA (r := some q_389)).2 e_392 dX4_init_1057 (fun H locs hV hS => ?_)
    refine lv_aload_n hx hb dX4_init_1060 rfl (lv_at hl 0 rfl) ?_
    refine lv_bipush hx hb dX4_init_1061 kb_64 ?_
    obtain ⟨hc1, hc2, h⟩ := h
    refine vw_arr (atype := .long) (ty := .long) (N' := 64) (a0 := (64, .inr (.inl (fun _ => 0)))) S hK hV hS hA 2 q352 rfl rfl (fun C h => by cases h) (fun cA => rfl) (by decide) (by decide) (by decide) hc1 hc2 dX4_init_1063 (fun q_393 V_394 H g1 g2 hV hS => ?_)
    replace h := h q_393 V_394 g1 g2
    have hk : kc + 1 + 1 + 1 + 1 + 1 + 1 + 1 + 1 ≤ MC ∧ ks + 128 + 128 + 96 + 96 + 20 + 20 + 10 + 64 ≤ MS := ⟨hc1, hc2⟩
    obtain ⟨V_395, e_396, h⟩ := bO_e h
    refine vp_v (v := .ref q_393) S hK hV hS fX4_115 (Or.inr ⟨hnm, by decide +kernel, by decide +kernel⟩) (va_rf_narA (r := some q_393)).1 (va_rf_narA (r := some q_393)).2 e_396 dX4_init_1065 (fun H locs hV hS => ?_)
    refine lv_aload_n hx hb dX4_init_1068 rfl (lv_at hl 0 rfl) ?_
    obtain ⟨M, ad, g1, g2, g3, g4, h⟩ := h
    have hP := mo_of_V hV g1 g2
    have hF : ∀ q, mF a0 ad q → A q := by
      rintro q (rfl | ⟨k, hk, rfl⟩)
      · exact hV.inA g1
      · exact hV.inA (g2 k hk)
    have hVs := hV.sub (fun b x hb => (g4 b x hb).1)
    refine mA_v S hK.1 hP hS hF (As := []) (rest := []) (mt4_plain l g3 M _ h) (cwV 0 S.2.2.2.2 (lw_V q1408 q1410 qs62 q145 q1411) rfl rfl rfl cdX4_plain ⟨Nat.le_of_ble_eq_true rfl, Nat.le_of_ble_eq_true rfl⟩) rfl rfl hl.1 (Nat.le_of_ble_eq_true rfl) dX4_init_1069 ⟨hk.1, hk.2⟩ (fun M1 H1 locs1 h hP1 hz1 hk1 hS1 => ?_)
    refine lv_aload_n hx hb dX4_init_1072 rfl (lv_at hl 0 rfl) ?_
    refine mA_v S hK.1 hP1 hS1 hF (As := []) (rest := []) (mt4_keep l g3 M1 _ h) (cwV 0 S.2.2.2.2 (lw_V q1412 q1414 qs63 q145 q1415) rfl rfl rfl cdX4_keep ⟨Nat.le_of_ble_eq_true rfl, Nat.le_of_ble_eq_true rfl⟩) rfl rfl hl.1 (Nat.le_of_ble_eq_true rfl) dX4_init_1073 ⟨hk.1, hk.2⟩ (fun M2 H2 locs2 h hP2 hz2 hk2 hS2 => ?_)
    have hn : ∀ b x, Vs b = some x → ¬ mF a0 ad b := by
      intro b x hb hm
      rcases hm with hm | ⟨k, hk, hm⟩
      · exact (g4 b x hb).2.1 hm
      · exact (g4 b x hb).2.2 k hk hm
    have hVs2 : HV D A Vs H2 := hVs.kept (fun b x hb => (hk2 b (Nat.lt_of_lt_of_le (hVs.lt hb) hz1) (hn b x hb)).trans (hk1 b (hVs.lt hb) (hn b x hb)))
    refine W.widen (k := MC) (n := MS) hk.1 hk.2 ?_
    exact W.vret hx hb hret (fun t ht hW => ⟨⟨(M2, ad), rfl, h, g3, by rw [ht]; exact hP2, by rw [ht]; exact hVs2, fun k hk => hV.inA (g2 k hk)⟩, hS2.F ht⟩) hS2.2.2 dX4_init_1076
  have C889 : ∀ (V : VS) (kc ks : Nat) (H : Heap) (locs : List Loc) (ls : Array Slot), HV D A V H → va_S A s.heap H locs → (kc ≤ MC ∧ ks ≤ MS) → lv_has ls 1 [(0, .ref a0)] → vX4_init_c889 cA a0 MC MS Vs Post V kc ks → W p l e (rX4_init MC MS) s m args below meth c H locs kc ks (MQ below (va_Qv (S := MSt × (Nat → Nat)) (fun u => Post u.1 u.2) (fun u t => mAd a0 u.2 ∧ va_P D vwCl (mo cA a0 u.2 u.1) t.heap ∧ HV D A Vs t.heap ∧ ∀ k ∈ mAF, A (u.2 k)) A) args s MC MS A) (F0 m 889 ls []) := by
    intro V kc ks H locs ls hV hS hk hl h
    unfold vX4_init_c889 at h
    refine lv_aload_n hx hb dX4_init_889 rfl (lv_at hl 0 rfl) ?_
    refine lv_bipush hx hb dX4_init_890 kb_10 ?_
    obtain ⟨hc1, hc2, h⟩ := h
    refine vw_arr (atype := .int) (ty := .int) (N' := 10) (a0 := (10, .inl (fun _ => 0))) S hK hV hS hA 0 q353 rfl rfl (fun C h => by cases h) (fun cA => rfl) (by decide) (by decide) (by decide) hc1 hc2 dX4_init_892 (fun q_311 V_312 H g1 g2 hV hS => ?_)
    replace h := h q_311 V_312 g1 g2
    have hk : kc + 1 ≤ MC ∧ ks + 10 ≤ MS := ⟨hc1, hc2⟩
    obtain ⟨V_313, e_314, h⟩ := bO_e h
    refine vp_v (v := .ref q_311) S hK hV hS fX4_47 (Or.inr ⟨hnm, by decide +kernel, by decide +kernel⟩) (va_rf_narA (r := some q_311)).1 (va_rf_narA (r := some q_311)).2 e_314 dX4_init_894 (fun H locs hV hS => ?_)
    refine lv_aload_n hx hb dX4_init_897 rfl (lv_at hl 0 rfl) ?_
    refine lv_bipush hx hb dX4_init_898 kb_120 ?_
    obtain ⟨hc1, hc2, h⟩ := h
    refine vw_arr (atype := .boolean) (ty := .boolean) (N' := 120) (a0 := (120, .inl (fun _ => 0))) S hK hV hS hA 1 q1619 rfl rfl (fun C h => by cases h) (fun cA => rfl) (by decide) (by decide) (by decide) hc1 hc2 dX4_init_900 (fun q_315 V_316 H g1 g2 hV hS => ?_)
    replace h := h q_315 V_316 g1 g2
    have hk : kc + 1 + 1 ≤ MC ∧ ks + 10 + 120 ≤ MS := ⟨hc1, hc2⟩
    obtain ⟨V_317, e_318, h⟩ := bO_e h
    refine vp_v (v := .ref q_315) S hK hV hS fX4_50 (Or.inr ⟨hnm, by decide +kernel, by decide +kernel⟩) (va_rf_narA (r := some q_315)).1 (va_rf_narA (r := some q_315)).2 e_318 dX4_init_902 (fun H locs hV hS => ?_)
    refine lv_aload_n hx hb dX4_init_905 rfl (lv_at hl 0 rfl) ?_
    refine lv_bipush hx hb dX4_init_906 kb_120 ?_
    obtain ⟨hc1, hc2, h⟩ := h
    refine vw_arr (atype := .int) (ty := .int) (N' := 120) (a0 := (120, .inl (fun _ => 0))) S hK hV hS hA 0 q353 rfl rfl (fun C h => by cases h) (fun cA => rfl) (by decide) (by decide) (by decide) hc1 hc2 dX4_init_908 (fun q_319 V_320 H g1 g2 hV hS => ?_)
    replace h := h q_319 V_320 g1 g2
    have hk : kc + 1 + 1 + 1 ≤ MC ∧ ks + 10 + 120 + 120 ≤ MS := ⟨hc1, hc2⟩
    obtain ⟨V_321, e_322, h⟩ := bO_e h
    refine vp_v (v := .ref q_319) S hK hV hS fX4_54 (Or.inr ⟨hnm, by decide +kernel, by decide +kernel⟩) (va_rf_narA (r := some q_319)).1 (va_rf_narA (r := some q_319)).2 e_322 dX4_init_910 (fun H locs hV hS => ?_)
    refine lv_aload_n hx hb dX4_init_913 rfl (lv_at hl 0 rfl) ?_
    refine lv_bipush hx hb dX4_init_914 kb_120 ?_
    obtain ⟨hc1, hc2, h⟩ := h
    refine vw_arr (atype := .int) (ty := .int) (N' := 120) (a0 := (120, .inl (fun _ => 0))) S hK hV hS hA 0 q353 rfl rfl (fun C h => by cases h) (fun cA => rfl) (by decide) (by decide) (by decide) hc1 hc2 dX4_init_916 (fun q_323 V_324 H g1 g2 hV hS => ?_)
    replace h := h q_323 V_324 g1 g2
    have hk : kc + 1 + 1 + 1 + 1 ≤ MC ∧ ks + 10 + 120 + 120 + 120 ≤ MS := ⟨hc1, hc2⟩
    obtain ⟨V_325, e_326, h⟩ := bO_e h
    refine vp_v (v := .ref q_323) S hK hV hS fX4_57 (Or.inr ⟨hnm, by decide +kernel, by decide +kernel⟩) (va_rf_narA (r := some q_323)).1 (va_rf_narA (r := some q_323)).2 e_326 dX4_init_918 (fun H locs hV hS => ?_)
    refine lv_aload_n hx hb dX4_init_921 rfl (lv_at hl 0 rfl) ?_
    refine lv_bipush hx hb dX4_init_922 kb_120 ?_
    obtain ⟨hc1, hc2, h⟩ := h
    refine vw_arr (atype := .int) (ty := .int) (N' := 120) (a0 := (120, .inl (fun _ => 0))) S hK hV hS hA 0 q353 rfl rfl (fun C h => by cases h) (fun cA => rfl) (by decide) (by decide) (by decide) hc1 hc2 dX4_init_924 (fun q_327 V_328 H g1 g2 hV hS => ?_)
    replace h := h q_327 V_328 g1 g2
    have hk : kc + 1 + 1 + 1 + 1 + 1 ≤ MC ∧ ks + 10 + 120 + 120 + 120 + 120 ≤ MS := ⟨hc1, hc2⟩
    obtain ⟨V_329, e_330, h⟩ := bO_e h
    refine vp_v (v := .ref q_327) S hK hV hS fX4_60 (Or.inr ⟨hnm, by decide +kernel, by decide +kernel⟩) (va_rf_narA (r := some q_327)).1 (va_rf_narA (r := some q_327)).2 e_330 dX4_init_926 (fun H locs hV hS => ?_)
    refine lv_aload_n hx hb dX4_init_929 rfl (lv_at hl 0 rfl) ?_
    refine lv_bipush hx hb dX4_init_930 kb_120 ?_
    obtain ⟨hc1, hc2, h⟩ := h
    refine vw_arr (atype := .int) (ty := .int) (N' := 120) (a0 := (120, .inl (fun _ => 0))) S hK hV hS hA 0 q353 rfl rfl (fun C h => by cases h) (fun cA => rfl) (by decide) (by decide) (by decide) hc1 hc2 dX4_init_932 (fun q_331 V_332 H g1 g2 hV hS => ?_)
    replace h := h q_331 V_332 g1 g2
    have hk : kc + 1 + 1 + 1 + 1 + 1 + 1 ≤ MC ∧ ks + 10 + 120 + 120 + 120 + 120 + 120 ≤ MS := ⟨hc1, hc2⟩
    obtain ⟨V_333, e_334, h⟩ := bO_e h
    refine vp_v (v := .ref q_331) S hK hV hS fX4_63 (Or.inr ⟨hnm, by decide +kernel, by decide +kernel⟩) (va_rf_narA (r := some q_331)).1 (va_rf_narA (r := some q_331)).2 e_334 dX4_init_934 (fun H locs hV hS => ?_)
    refine lv_aload_n hx hb dX4_init_937 rfl (lv_at hl 0 rfl) ?_
    refine lv_bipush hx hb dX4_init_938 kb_40 ?_
    obtain ⟨hc1, hc2, h⟩ := h
    refine vw_arr (atype := .int) (ty := .int) (N' := 40) (a0 := (40, .inl (fun _ => 0))) S hK hV hS hA 0 q353 rfl rfl (fun C h => by cases h) (fun cA => rfl) (by decide) (by decide) (by decide) hc1 hc2 dX4_init_940 (fun q_335 V_336 H g1 g2 hV hS => ?_)
    replace h := h q_335 V_336 g1 g2
    have hk : kc + 1 + 1 + 1 + 1 + 1 + 1 + 1 ≤ MC ∧ ks + 10 + 120 + 120 + 120 + 120 + 120 + 40 ≤ MS := ⟨hc1, hc2⟩
    obtain ⟨V_337, e_338, h⟩ := bO_e h
    refine vp_v (v := .ref q_335) S hK hV hS fX4_66 (Or.inr ⟨hnm, by decide +kernel, by decide +kernel⟩) (va_rf_narA (r := some q_335)).1 (va_rf_narA (r := some q_335)).2 e_338 dX4_init_942 (fun H locs hV hS => ?_)
    refine lv_aload_n hx hb dX4_init_945 rfl (lv_at hl 0 rfl) ?_
    refine lv_bipush hx hb dX4_init_946 kb_40 ?_
    obtain ⟨hc1, hc2, h⟩ := h
    refine vw_arr (atype := .int) (ty := .int) (N' := 40) (a0 := (40, .inl (fun _ => 0))) S hK hV hS hA 0 q353 rfl rfl (fun C h => by cases h) (fun cA => rfl) (by decide) (by decide) (by decide) hc1 hc2 dX4_init_948 (fun q_339 V_340 H g1 g2 hV hS => ?_)
    replace h := h q_339 V_340 g1 g2
    have hk : kc + 1 + 1 + 1 + 1 + 1 + 1 + 1 + 1 ≤ MC ∧ ks + 10 + 120 + 120 + 120 + 120 + 120 + 40 + 40 ≤ MS := ⟨hc1, hc2⟩
    obtain ⟨V_341, e_342, h⟩ := bO_e h
    refine vp_v (v := .ref q_339) S hK hV hS fX4_69 (Or.inr ⟨hnm, by decide +kernel, by decide +kernel⟩) (va_rf_narA (r := some q_339)).1 (va_rf_narA (r := some q_339)).2 e_342 dX4_init_950 (fun H locs hV hS => ?_)
    refine lv_aload_n hx hb dX4_init_953 rfl (lv_at hl 0 rfl) ?_
    refine lv_bipush hx hb dX4_init_954 kb_40 ?_
    obtain ⟨hc1, hc2, h⟩ := h
    refine vw_arr (atype := .int) (ty := .int) (N' := 40) (a0 := (40, .inl (fun _ => 0))) S hK hV hS hA 0 q353 rfl rfl (fun C h => by cases h) (fun cA => rfl) (by decide) (by decide) (by decide) hc1 hc2 dX4_init_956 (fun q_343 V_344 H g1 g2 hV hS => ?_)
    replace h := h q_343 V_344 g1 g2
    have hk : kc + 1 + 1 + 1 + 1 + 1 + 1 + 1 + 1 + 1 ≤ MC ∧ ks + 10 + 120 + 120 + 120 + 120 + 120 + 40 + 40 + 40 ≤ MS := ⟨hc1, hc2⟩
    obtain ⟨V_345, e_346, h⟩ := bO_e h
    refine vp_v (v := .ref q_343) S hK hV hS fX4_72 (Or.inr ⟨hnm, by decide +kernel, by decide +kernel⟩) (va_rf_narA (r := some q_343)).1 (va_rf_narA (r := some q_343)).2 e_346 dX4_init_958 (fun H locs hV hS => ?_)
    refine lv_aload_n hx hb dX4_init_961 rfl (lv_at hl 0 rfl) ?_
    refine lv_bipush hx hb dX4_init_962 kb_6 ?_
    obtain ⟨hc1, hc2, h⟩ := h
    refine vw_arr (atype := .int) (ty := .int) (N' := 6) (a0 := (6, .inl (fun _ => 0))) S hK hV hS hA 0 q353 rfl rfl (fun C h => by cases h) (fun cA => rfl) (by decide) (by decide) (by decide) hc1 hc2 dX4_init_964 (fun q_347 V_348 H g1 g2 hV hS => ?_)
    replace h := h q_347 V_348 g1 g2
    have hk : kc + 1 + 1 + 1 + 1 + 1 + 1 + 1 + 1 + 1 + 1 ≤ MC ∧ ks + 10 + 120 + 120 + 120 + 120 + 120 + 40 + 40 + 40 + 6 ≤ MS := ⟨hc1, hc2⟩
    obtain ⟨V_349, e_350, h⟩ := bO_e h
    refine vp_v (v := .ref q_347) S hK hV hS fX4_75 (Or.inr ⟨hnm, by decide +kernel, by decide +kernel⟩) (va_rf_narA (r := some q_347)).1 (va_rf_narA (r := some q_347)).2 e_350 dX4_init_966 (fun H locs hV hS => ?_)
    refine lv_aload_n hx hb dX4_init_969 rfl (lv_at hl 0 rfl) ?_
    refine lv_bipush hx hb dX4_init_970 kb_6 ?_
    obtain ⟨hc1, hc2, h⟩ := h
    refine vw_arr (atype := .int) (ty := .int) (N' := 6) (a0 := (6, .inl (fun _ => 0))) S hK hV hS hA 0 q353 rfl rfl (fun C h => by cases h) (fun cA => rfl) (by decide) (by decide) (by decide) hc1 hc2 dX4_init_972 (fun q_351 V_352 H g1 g2 hV hS => ?_)
    replace h := h q_351 V_352 g1 g2
    have hk : kc + 1 + 1 + 1 + 1 + 1 + 1 + 1 + 1 + 1 + 1 + 1 ≤ MC ∧ ks + 10 + 120 + 120 + 120 + 120 + 120 + 40 + 40 + 40 + 6 + 6 ≤ MS := ⟨hc1, hc2⟩
    obtain ⟨V_353, e_354, h⟩ := bO_e h
    refine vp_v (v := .ref q_351) S hK hV hS fX4_78 (Or.inr ⟨hnm, by decide +kernel, by decide +kernel⟩) (va_rf_narA (r := some q_351)).1 (va_rf_narA (r := some q_351)).2 e_354 dX4_init_974 (fun H locs hV hS => ?_)
    refine lv_aload_n hx hb dX4_init_977 rfl (lv_at hl 0 rfl) ?_
    refine lv_sipush hx hb dX4_init_978 ks_128 ?_
    obtain ⟨hc1, hc2, h⟩ := h
    refine vw_arr (atype := .int) (ty := .int) (N' := 128) (a0 := (128, .inl (fun _ => 0))) S hK hV hS hA 0 q353 rfl rfl (fun C h => by cases h) (fun cA => rfl) (by decide) (by decide) (by decide) hc1 hc2 dX4_init_981 (fun q_355 V_356 H g1 g2 hV hS => ?_)
    replace h := h q_355 V_356 g1 g2
    have hk : kc + 1 + 1 + 1 + 1 + 1 + 1 + 1 + 1 + 1 + 1 + 1 + 1 ≤ MC ∧ ks + 10 + 120 + 120 + 120 + 120 + 120 + 40 + 40 + 40 + 6 + 6 + 128 ≤ MS := ⟨hc1, hc2⟩
    obtain ⟨V_357, e_358, h⟩ := bO_e h
    refine vp_v (v := .ref q_355) S hK hV hS fX4_81 (Or.inr ⟨hnm, by decide +kernel, by decide +kernel⟩) (va_rf_narA (r := some q_355)).1 (va_rf_narA (r := some q_355)).2 e_358 dX4_init_983 (fun H locs hV hS => ?_)
    exact C986 _ _ _ _ _ _ hV hS hk (lv_sub hl [0] rfl) h
  have C795 : ∀ (t0 : Nat) (V : VS) (kc ks : Nat) (H : Heap) (locs : List Loc) (ls : Array Slot), HV D A V H → va_S A s.heap H locs → (kc ≤ MC ∧ ks ≤ MS) → lv_has ls 1 [(0, .ref a0)] → vX4_init_c795 cA a0 MC MS Vs Post t0 V kc ks → W p l e (rX4_init MC MS) s m args below meth c H locs kc ks (MQ below (va_Qv (S := MSt × (Nat → Nat)) (fun u => Post u.1 u.2) (fun u t => mAd a0 u.2 ∧ va_P D vwCl (mo cA a0 u.2 u.1) t.heap ∧ HV D A Vs t.heap ∧ ∀ k ∈ mAF, A (u.2 k)) A) args s MC MS A) (F0 m 795 ls [.ref t0, .ref a0]) := by
    intro t0 V kc ks H locs ls hV hS hk hl h
    unfold vX4_init_c795 at h
    refine lv_dup hx hb dX4_init_795 rfl ?_
    refine lv_sipush hx hb dX4_init_796 ks_130 ?_
    refine lv_bipush hx hb dX4_init_799 kb_115 ?_
    obtain ⟨V_267, e_268, h⟩ := bO_e h
    refine vs_i S hK hV hS e_268 dX4_init_801 (fun H locs hV hS => ?_)
    refine lv_dup hx hb dX4_init_802 rfl ?_
    refine lv_sipush hx hb dX4_init_803 ks_131 ?_
    refine lv_bipush hx hb dX4_init_806 kb_32 ?_
    obtain ⟨V_269, e_270, h⟩ := bO_e h
    refine vs_i S hK hV hS e_270 dX4_init_808 (fun H locs hV hS => ?_)
    obtain ⟨V_271, e_272, h⟩ := bO_e h
    refine vp_v (v := .ref t0) S hK hV hS fX4_13 (Or.inr ⟨hnm, by decide +kernel, by decide +kernel⟩) (va_rf_narA (r := some t0)).1 (va_rf_narA (r := some t0)).2 e_272 dX4_init_809 (fun H locs hV hS => ?_)
    refine lv_aload_n hx hb dX4_init_812 rfl (lv_at hl 0 rfl) ?_
    refine lv_iconst hx hb dX4_init_813 kc_m1 ?_
    obtain ⟨V_273, e_274, h⟩ := bO_e h
    refine vp_v (v := .int (-1 : Int32)) S hK hV hS fX4_16 (Or.inl rfl) rfl rfl e_274 dX4_init_814 (fun H locs hV hS => ?_)
    refine lv_aload_n hx hb dX4_init_817 rfl (lv_at hl 0 rfl) ?_
    refine lv_bipush hx hb dX4_init_818 kb_16 ?_
    obtain ⟨hc1, hc2, h⟩ := h
    refine vw_arr (atype := .int) (ty := .int) (N' := 16) (a0 := (16, .inl (fun _ => 0))) S hK hV hS hA 0 q353 rfl rfl (fun C h => by cases h) (fun cA => rfl) (by decide) (by decide) (by decide) hc1 hc2 dX4_init_820 (fun q_275 V_276 H g1 g2 hV hS => ?_)
    replace h := h q_275 V_276 g1 g2
    have hk : kc + 1 ≤ MC ∧ ks + 16 ≤ MS := ⟨hc1, hc2⟩
    obtain ⟨V_277, e_278, h⟩ := bO_e h
    refine vp_v (v := .ref q_275) S hK hV hS fX4_20 (Or.inr ⟨hnm, by decide +kernel, by decide +kernel⟩) (va_rf_narA (r := some q_275)).1 (va_rf_narA (r := some q_275)).2 e_278 dX4_init_822 (fun H locs hV hS => ?_)
    refine lv_aload_n hx hb dX4_init_825 rfl (lv_at hl 0 rfl) ?_
    refine lv_bipush hx hb dX4_init_826 kb_16 ?_
    obtain ⟨hc1, hc2, h⟩ := h
    refine vw_arr (atype := .int) (ty := .int) (N' := 16) (a0 := (16, .inl (fun _ => 0))) S hK hV hS hA 0 q353 rfl rfl (fun C h => by cases h) (fun cA => rfl) (by decide) (by decide) (by decide) hc1 hc2 dX4_init_828 (fun q_279 V_280 H g1 g2 hV hS => ?_)
    replace h := h q_279 V_280 g1 g2
    have hk : kc + 1 + 1 ≤ MC ∧ ks + 16 + 16 ≤ MS := ⟨hc1, hc2⟩
    obtain ⟨V_281, e_282, h⟩ := bO_e h
    refine vp_v (v := .ref q_279) S hK hV hS fX4_23 (Or.inr ⟨hnm, by decide +kernel, by decide +kernel⟩) (va_rf_narA (r := some q_279)).1 (va_rf_narA (r := some q_279)).2 e_282 dX4_init_830 (fun H locs hV hS => ?_)
    refine lv_aload_n hx hb dX4_init_833 rfl (lv_at hl 0 rfl) ?_
    refine lv_bipush hx hb dX4_init_834 kb_16 ?_
    obtain ⟨hc1, hc2, h⟩ := h
    refine vw_arr (atype := .int) (ty := .int) (N' := 16) (a0 := (16, .inl (fun _ => 0))) S hK hV hS hA 0 q353 rfl rfl (fun C h => by cases h) (fun cA => rfl) (by decide) (by decide) (by decide) hc1 hc2 dX4_init_836 (fun q_283 V_284 H g1 g2 hV hS => ?_)
    replace h := h q_283 V_284 g1 g2
    have hk : kc + 1 + 1 + 1 ≤ MC ∧ ks + 16 + 16 + 16 ≤ MS := ⟨hc1, hc2⟩
    obtain ⟨V_285, e_286, h⟩ := bO_e h
    refine vp_v (v := .ref q_283) S hK hV hS fX4_26 (Or.inr ⟨hnm, by decide +kernel, by decide +kernel⟩) (va_rf_narA (r := some q_283)).1 (va_rf_narA (r := some q_283)).2 e_286 dX4_init_838 (fun H locs hV hS => ?_)
    refine lv_aload_n hx hb dX4_init_841 rfl (lv_at hl 0 rfl) ?_
    refine lv_bipush hx hb dX4_init_842 kb_16 ?_
    obtain ⟨hc1, hc2, h⟩ := h
    refine vw_arr (atype := .int) (ty := .int) (N' := 16) (a0 := (16, .inl (fun _ => 0))) S hK hV hS hA 0 q353 rfl rfl (fun C h => by cases h) (fun cA => rfl) (by decide) (by decide) (by decide) hc1 hc2 dX4_init_844 (fun q_287 V_288 H g1 g2 hV hS => ?_)
    replace h := h q_287 V_288 g1 g2
    have hk : kc + 1 + 1 + 1 + 1 ≤ MC ∧ ks + 16 + 16 + 16 + 16 ≤ MS := ⟨hc1, hc2⟩
    obtain ⟨V_289, e_290, h⟩ := bO_e h
    refine vp_v (v := .ref q_287) S hK hV hS fX4_29 (Or.inr ⟨hnm, by decide +kernel, by decide +kernel⟩) (va_rf_narA (r := some q_287)).1 (va_rf_narA (r := some q_287)).2 e_290 dX4_init_846 (fun H locs hV hS => ?_)
    refine lv_aload_n hx hb dX4_init_849 rfl (lv_at hl 0 rfl) ?_
    refine lv_bipush hx hb dX4_init_850 kb_16 ?_
    obtain ⟨hc1, hc2, h⟩ := h
    refine vw_arr (atype := .int) (ty := .int) (N' := 16) (a0 := (16, .inl (fun _ => 0))) S hK hV hS hA 0 q353 rfl rfl (fun C h => by cases h) (fun cA => rfl) (by decide) (by decide) (by decide) hc1 hc2 dX4_init_852 (fun q_291 V_292 H g1 g2 hV hS => ?_)
    replace h := h q_291 V_292 g1 g2
    have hk : kc + 1 + 1 + 1 + 1 + 1 ≤ MC ∧ ks + 16 + 16 + 16 + 16 + 16 ≤ MS := ⟨hc1, hc2⟩
    obtain ⟨V_293, e_294, h⟩ := bO_e h
    refine vp_v (v := .ref q_291) S hK hV hS fX4_32 (Or.inr ⟨hnm, by decide +kernel, by decide +kernel⟩) (va_rf_narA (r := some q_291)).1 (va_rf_narA (r := some q_291)).2 e_294 dX4_init_854 (fun H locs hV hS => ?_)
    refine lv_aload_n hx hb dX4_init_857 rfl (lv_at hl 0 rfl) ?_
    refine lv_bipush hx hb dX4_init_858 kb_10 ?_
    obtain ⟨hc1, hc2, h⟩ := h
    refine vw_arr (atype := .int) (ty := .int) (N' := 10) (a0 := (10, .inl (fun _ => 0))) S hK hV hS hA 0 q353 rfl rfl (fun C h => by cases h) (fun cA => rfl) (by decide) (by decide) (by decide) hc1 hc2 dX4_init_860 (fun q_295 V_296 H g1 g2 hV hS => ?_)
    replace h := h q_295 V_296 g1 g2
    have hk : kc + 1 + 1 + 1 + 1 + 1 + 1 ≤ MC ∧ ks + 16 + 16 + 16 + 16 + 16 + 10 ≤ MS := ⟨hc1, hc2⟩
    obtain ⟨V_297, e_298, h⟩ := bO_e h
    refine vp_v (v := .ref q_295) S hK hV hS fX4_35 (Or.inr ⟨hnm, by decide +kernel, by decide +kernel⟩) (va_rf_narA (r := some q_295)).1 (va_rf_narA (r := some q_295)).2 e_298 dX4_init_862 (fun H locs hV hS => ?_)
    refine lv_aload_n hx hb dX4_init_865 rfl (lv_at hl 0 rfl) ?_
    refine lv_bipush hx hb dX4_init_866 kb_10 ?_
    obtain ⟨hc1, hc2, h⟩ := h
    refine vw_arr (atype := .int) (ty := .int) (N' := 10) (a0 := (10, .inl (fun _ => 0))) S hK hV hS hA 0 q353 rfl rfl (fun C h => by cases h) (fun cA => rfl) (by decide) (by decide) (by decide) hc1 hc2 dX4_init_868 (fun q_299 V_300 H g1 g2 hV hS => ?_)
    replace h := h q_299 V_300 g1 g2
    have hk : kc + 1 + 1 + 1 + 1 + 1 + 1 + 1 ≤ MC ∧ ks + 16 + 16 + 16 + 16 + 16 + 10 + 10 ≤ MS := ⟨hc1, hc2⟩
    obtain ⟨V_301, e_302, h⟩ := bO_e h
    refine vp_v (v := .ref q_299) S hK hV hS fX4_38 (Or.inr ⟨hnm, by decide +kernel, by decide +kernel⟩) (va_rf_narA (r := some q_299)).1 (va_rf_narA (r := some q_299)).2 e_302 dX4_init_870 (fun H locs hV hS => ?_)
    refine lv_aload_n hx hb dX4_init_873 rfl (lv_at hl 0 rfl) ?_
    refine lv_bipush hx hb dX4_init_874 kb_10 ?_
    obtain ⟨hc1, hc2, h⟩ := h
    refine vw_arr (atype := .int) (ty := .int) (N' := 10) (a0 := (10, .inl (fun _ => 0))) S hK hV hS hA 0 q353 rfl rfl (fun C h => by cases h) (fun cA => rfl) (by decide) (by decide) (by decide) hc1 hc2 dX4_init_876 (fun q_303 V_304 H g1 g2 hV hS => ?_)
    replace h := h q_303 V_304 g1 g2
    have hk : kc + 1 + 1 + 1 + 1 + 1 + 1 + 1 + 1 ≤ MC ∧ ks + 16 + 16 + 16 + 16 + 16 + 10 + 10 + 10 ≤ MS := ⟨hc1, hc2⟩
    obtain ⟨V_305, e_306, h⟩ := bO_e h
    refine vp_v (v := .ref q_303) S hK hV hS fX4_41 (Or.inr ⟨hnm, by decide +kernel, by decide +kernel⟩) (va_rf_narA (r := some q_303)).1 (va_rf_narA (r := some q_303)).2 e_306 dX4_init_878 (fun H locs hV hS => ?_)
    refine lv_aload_n hx hb dX4_init_881 rfl (lv_at hl 0 rfl) ?_
    refine lv_bipush hx hb dX4_init_882 kb_10 ?_
    obtain ⟨hc1, hc2, h⟩ := h
    refine vw_arr (atype := .int) (ty := .int) (N' := 10) (a0 := (10, .inl (fun _ => 0))) S hK hV hS hA 0 q353 rfl rfl (fun C h => by cases h) (fun cA => rfl) (by decide) (by decide) (by decide) hc1 hc2 dX4_init_884 (fun q_307 V_308 H g1 g2 hV hS => ?_)
    replace h := h q_307 V_308 g1 g2
    have hk : kc + 1 + 1 + 1 + 1 + 1 + 1 + 1 + 1 + 1 ≤ MC ∧ ks + 16 + 16 + 16 + 16 + 16 + 10 + 10 + 10 + 10 ≤ MS := ⟨hc1, hc2⟩
    obtain ⟨V_309, e_310, h⟩ := bO_e h
    refine vp_v (v := .ref q_307) S hK hV hS fX4_44 (Or.inr ⟨hnm, by decide +kernel, by decide +kernel⟩) (va_rf_narA (r := some q_307)).1 (va_rf_narA (r := some q_307)).2 e_310 dX4_init_886 (fun H locs hV hS => ?_)
    exact C889 _ _ _ _ _ _ hV hS hk (lv_sub hl [0] rfl) h
  have C721 : ∀ (t0 : Nat) (V : VS) (kc ks : Nat) (H : Heap) (locs : List Loc) (ls : Array Slot), HV D A V H → va_S A s.heap H locs → (kc ≤ MC ∧ ks ≤ MS) → lv_has ls 1 [(0, .ref a0)] → vX4_init_c721 cA a0 MC MS Vs Post t0 V kc ks → W p l e (rX4_init MC MS) s m args below meth c H locs kc ks (MQ below (va_Qv (S := MSt × (Nat → Nat)) (fun u => Post u.1 u.2) (fun u t => mAd a0 u.2 ∧ va_P D vwCl (mo cA a0 u.2 u.1) t.heap ∧ HV D A Vs t.heap ∧ ∀ k ∈ mAF, A (u.2 k)) A) args s MC MS A) (F0 m 721 ls [.ref t0, .ref a0]) := by
    intro t0 V kc ks H locs ls hV hS hk hl h
    unfold vX4_init_c721 at h
    refine lv_dup hx hb dX4_init_721 rfl ?_
    refine lv_bipush hx hb dX4_init_722 kb_118 ?_
    refine lv_bipush hx hb dX4_init_724 kb_110 ?_
    obtain ⟨V_243, e_244, h⟩ := bO_e h
    refine vs_i S hK hV hS e_244 dX4_init_726 (fun H locs hV hS => ?_)
    refine lv_dup hx hb dX4_init_727 rfl ?_
    refine lv_bipush hx hb dX4_init_728 kb_119 ?_
    refine lv_bipush hx hb dX4_init_730 kb_101 ?_
    obtain ⟨V_245, e_246, h⟩ := bO_e h
    refine vs_i S hK hV hS e_246 dX4_init_732 (fun H locs hV hS => ?_)
    refine lv_dup hx hb dX4_init_733 rfl ?_
    refine lv_bipush hx hb dX4_init_734 kb_120 ?_
    refine lv_bipush hx hb dX4_init_736 kb_119 ?_
    obtain ⟨V_247, e_248, h⟩ := bO_e h
    refine vs_i S hK hV hS e_248 dX4_init_738 (fun H locs hV hS => ?_)
    refine lv_dup hx hb dX4_init_739 rfl ?_
    refine lv_bipush hx hb dX4_init_740 kb_121 ?_
    refine lv_bipush hx hb dX4_init_742 kb_32 ?_
    obtain ⟨V_249, e_250, h⟩ := bO_e h
    refine vs_i S hK hV hS e_250 dX4_init_744 (fun H locs hV hS => ?_)
    refine lv_dup hx hb dX4_init_745 rfl ?_
    refine lv_bipush hx hb dX4_init_746 kb_122 ?_
    refine lv_bipush hx hb dX4_init_748 kb_112 ?_
    obtain ⟨V_251, e_252, h⟩ := bO_e h
    refine vs_i S hK hV hS e_252 dX4_init_750 (fun H locs hV hS => ?_)
    refine lv_dup hx hb dX4_init_751 rfl ?_
    refine lv_bipush hx hb dX4_init_752 kb_123 ?_
    refine lv_bipush hx hb dX4_init_754 kb_117 ?_
    obtain ⟨V_253, e_254, h⟩ := bO_e h
    refine vs_i S hK hV hS e_254 dX4_init_756 (fun H locs hV hS => ?_)
    refine lv_dup hx hb dX4_init_757 rfl ?_
    refine lv_bipush hx hb dX4_init_758 kb_124 ?_
    refine lv_bipush hx hb dX4_init_760 kb_116 ?_
    obtain ⟨V_255, e_256, h⟩ := bO_e h
    refine vs_i S hK hV hS e_256 dX4_init_762 (fun H locs hV hS => ?_)
    refine lv_dup hx hb dX4_init_763 rfl ?_
    refine lv_bipush hx hb dX4_init_764 kb_125 ?_
    refine lv_bipush hx hb dX4_init_766 kb_32 ?_
    obtain ⟨V_257, e_258, h⟩ := bO_e h
    refine vs_i S hK hV hS e_258 dX4_init_768 (fun H locs hV hS => ?_)
    refine lv_dup hx hb dX4_init_769 rfl ?_
    refine lv_bipush hx hb dX4_init_770 kb_126 ?_
    refine lv_bipush hx hb dX4_init_772 kb_108 ?_
    obtain ⟨V_259, e_260, h⟩ := bO_e h
    refine vs_i S hK hV hS e_260 dX4_init_774 (fun H locs hV hS => ?_)
    refine lv_dup hx hb dX4_init_775 rfl ?_
    refine lv_bipush hx hb dX4_init_776 kb_127 ?_
    refine lv_bipush hx hb dX4_init_778 kb_105 ?_
    obtain ⟨V_261, e_262, h⟩ := bO_e h
    refine vs_i S hK hV hS e_262 dX4_init_780 (fun H locs hV hS => ?_)
    refine lv_dup hx hb dX4_init_781 rfl ?_
    refine lv_sipush hx hb dX4_init_782 ks_128 ?_
    refine lv_bipush hx hb dX4_init_785 kb_110 ?_
    obtain ⟨V_263, e_264, h⟩ := bO_e h
    refine vs_i S hK hV hS e_264 dX4_init_787 (fun H locs hV hS => ?_)
    refine lv_dup hx hb dX4_init_788 rfl ?_
    refine lv_sipush hx hb dX4_init_789 ks_129 ?_
    refine lv_bipush hx hb dX4_init_792 kb_101 ?_
    obtain ⟨V_265, e_266, h⟩ := bO_e h
    refine vs_i S hK hV hS e_266 dX4_init_794 (fun H locs hV hS => ?_)
    exact C795 _ _ _ _ _ _ _ hV hS hk (lv_sub hl [0] rfl) h
  have C649 : ∀ (t0 : Nat) (V : VS) (kc ks : Nat) (H : Heap) (locs : List Loc) (ls : Array Slot), HV D A V H → va_S A s.heap H locs → (kc ≤ MC ∧ ks ≤ MS) → lv_has ls 1 [(0, .ref a0)] → vX4_init_c649 cA a0 MC MS Vs Post t0 V kc ks → W p l e (rX4_init MC MS) s m args below meth c H locs kc ks (MQ below (va_Qv (S := MSt × (Nat → Nat)) (fun u => Post u.1 u.2) (fun u t => mAd a0 u.2 ∧ va_P D vwCl (mo cA a0 u.2 u.1) t.heap ∧ HV D A Vs t.heap ∧ ∀ k ∈ mAF, A (u.2 k)) A) args s MC MS A) (F0 m 649 ls [.ref t0, .ref a0]) := by
    intro t0 V kc ks H locs ls hV hS hk hl h
    unfold vX4_init_c649 at h
    refine lv_dup hx hb dX4_init_649 rfl ?_
    refine lv_bipush hx hb dX4_init_650 kb_106 ?_
    refine lv_bipush hx hb dX4_init_652 kb_114 ?_
    obtain ⟨V_219, e_220, h⟩ := bO_e h
    refine vs_i S hK hV hS e_220 dX4_init_654 (fun H locs hV hS => ?_)
    refine lv_dup hx hb dX4_init_655 rfl ?_
    refine lv_bipush hx hb dX4_init_656 kb_107 ?_
    refine lv_bipush hx hb dX4_init_658 kb_105 ?_
    obtain ⟨V_221, e_222, h⟩ := bO_e h
    refine vs_i S hK hV hS e_222 dX4_init_660 (fun H locs hV hS => ?_)
    refine lv_dup hx hb dX4_init_661 rfl ?_
    refine lv_bipush hx hb dX4_init_662 kb_108 ?_
    refine lv_bipush hx hb dX4_init_664 kb_103 ?_
    obtain ⟨V_223, e_224, h⟩ := bO_e h
    refine vs_i S hK hV hS e_224 dX4_init_666 (fun H locs hV hS => ?_)
    refine lv_dup hx hb dX4_init_667 rfl ?_
    refine lv_bipush hx hb dX4_init_668 kb_109 ?_
    refine lv_bipush hx hb dX4_init_670 kb_104 ?_
    obtain ⟨V_225, e_226, h⟩ := bO_e h
    refine vs_i S hK hV hS e_226 dX4_init_672 (fun H locs hV hS => ?_)
    refine lv_dup hx hb dX4_init_673 rfl ?_
    refine lv_bipush hx hb dX4_init_674 kb_110 ?_
    refine lv_bipush hx hb dX4_init_676 kb_116 ?_
    obtain ⟨V_227, e_228, h⟩ := bO_e h
    refine vs_i S hK hV hS e_228 dX4_init_678 (fun H locs hV hS => ?_)
    refine lv_dup hx hb dX4_init_679 rfl ?_
    refine lv_bipush hx hb dX4_init_680 kb_111 ?_
    refine lv_bipush hx hb dX4_init_682 kb_32 ?_
    obtain ⟨V_229, e_230, h⟩ := bO_e h
    refine vs_i S hK hV hS e_230 dX4_init_684 (fun H locs hV hS => ?_)
    refine lv_dup hx hb dX4_init_685 rfl ?_
    refine lv_bipush hx hb dX4_init_686 kb_112 ?_
    refine lv_bipush hx hb dX4_init_688 kb_119 ?_
    obtain ⟨V_231, e_232, h⟩ := bO_e h
    refine vs_i S hK hV hS e_232 dX4_init_690 (fun H locs hV hS => ?_)
    refine lv_dup hx hb dX4_init_691 rfl ?_
    refine lv_bipush hx hb dX4_init_692 kb_113 ?_
    refine lv_bipush hx hb dX4_init_694 kb_114 ?_
    obtain ⟨V_233, e_234, h⟩ := bO_e h
    refine vs_i S hK hV hS e_234 dX4_init_696 (fun H locs hV hS => ?_)
    refine lv_dup hx hb dX4_init_697 rfl ?_
    refine lv_bipush hx hb dX4_init_698 kb_114 ?_
    refine lv_bipush hx hb dX4_init_700 kb_111 ?_
    obtain ⟨V_235, e_236, h⟩ := bO_e h
    refine vs_i S hK hV hS e_236 dX4_init_702 (fun H locs hV hS => ?_)
    refine lv_dup hx hb dX4_init_703 rfl ?_
    refine lv_bipush hx hb dX4_init_704 kb_115 ?_
    refine lv_bipush hx hb dX4_init_706 kb_110 ?_
    obtain ⟨V_237, e_238, h⟩ := bO_e h
    refine vs_i S hK hV hS e_238 dX4_init_708 (fun H locs hV hS => ?_)
    refine lv_dup hx hb dX4_init_709 rfl ?_
    refine lv_bipush hx hb dX4_init_710 kb_116 ?_
    refine lv_bipush hx hb dX4_init_712 kb_103 ?_
    obtain ⟨V_239, e_240, h⟩ := bO_e h
    refine vs_i S hK hV hS e_240 dX4_init_714 (fun H locs hV hS => ?_)
    refine lv_dup hx hb dX4_init_715 rfl ?_
    refine lv_bipush hx hb dX4_init_716 kb_117 ?_
    refine lv_bipush hx hb dX4_init_718 kb_32 ?_
    obtain ⟨V_241, e_242, h⟩ := bO_e h
    refine vs_i S hK hV hS e_242 dX4_init_720 (fun H locs hV hS => ?_)
    exact C721 _ _ _ _ _ _ _ hV hS hk (lv_sub hl [0] rfl) h
  have C577 : ∀ (t0 : Nat) (V : VS) (kc ks : Nat) (H : Heap) (locs : List Loc) (ls : Array Slot), HV D A V H → va_S A s.heap H locs → (kc ≤ MC ∧ ks ≤ MS) → lv_has ls 1 [(0, .ref a0)] → vX4_init_c577 cA a0 MC MS Vs Post t0 V kc ks → W p l e (rX4_init MC MS) s m args below meth c H locs kc ks (MQ below (va_Qv (S := MSt × (Nat → Nat)) (fun u => Post u.1 u.2) (fun u t => mAd a0 u.2 ∧ va_P D vwCl (mo cA a0 u.2 u.1) t.heap ∧ HV D A Vs t.heap ∧ ∀ k ∈ mAF, A (u.2 k)) A) args s MC MS A) (F0 m 577 ls [.ref t0, .ref a0]) := by
    intro t0 V kc ks H locs ls hV hS hk hl h
    unfold vX4_init_c577 at h
    refine lv_dup hx hb dX4_init_577 rfl ?_
    refine lv_bipush hx hb dX4_init_578 kb_94 ?_
    refine lv_bipush hx hb dX4_init_580 kb_102 ?_
    obtain ⟨V_195, e_196, h⟩ := bO_e h
    refine vs_i S hK hV hS e_196 dX4_init_582 (fun H locs hV hS => ?_)
    refine lv_dup hx hb dX4_init_583 rfl ?_
    refine lv_bipush hx hb dX4_init_584 kb_95 ?_
    refine lv_bipush hx hb dX4_init_586 kb_102 ?_
    obtain ⟨V_197, e_198, h⟩ := bO_e h
    refine vs_i S hK hV hS e_198 dX4_init_588 (fun H locs hV hS => ?_)
    refine lv_dup hx hb dX4_init_589 rfl ?_
    refine lv_bipush hx hb dX4_init_590 kb_96 ?_
    refine lv_bipush hx hb dX4_init_592 kb_32 ?_
    obtain ⟨V_199, e_200, h⟩ := bO_e h
    refine vs_i S hK hV hS e_200 dX4_init_594 (fun H locs hV hS => ?_)
    refine lv_dup hx hb dX4_init_595 rfl ?_
    refine lv_bipush hx hb dX4_init_596 kb_97 ?_
    refine lv_bipush hx hb dX4_init_598 kb_97 ?_
    obtain ⟨V_201, e_202, h⟩ := bO_e h
    refine vs_i S hK hV hS e_202 dX4_init_600 (fun H locs hV hS => ?_)
    refine lv_dup hx hb dX4_init_601 rfl ?_
    refine lv_bipush hx hb dX4_init_602 kb_98 ?_
    refine lv_bipush hx hb dX4_init_604 kb_115 ?_
    obtain ⟨V_203, e_204, h⟩ := bO_e h
    refine vs_i S hK hV hS e_204 dX4_init_606 (fun H locs hV hS => ?_)
    refine lv_dup hx hb dX4_init_607 rfl ?_
    refine lv_bipush hx hb dX4_init_608 kb_99 ?_
    refine lv_bipush hx hb dX4_init_610 kb_107 ?_
    obtain ⟨V_205, e_206, h⟩ := bO_e h
    refine vs_i S hK hV hS e_206 dX4_init_612 (fun H locs hV hS => ?_)
    refine lv_dup hx hb dX4_init_613 rfl ?_
    refine lv_bipush hx hb dX4_init_614 kb_100 ?_
    refine lv_bipush hx hb dX4_init_616 kb_115 ?_
    obtain ⟨V_207, e_208, h⟩ := bO_e h
    refine vs_i S hK hV hS e_208 dX4_init_618 (fun H locs hV hS => ?_)
    refine lv_dup hx hb dX4_init_619 rfl ?_
    refine lv_bipush hx hb dX4_init_620 kb_101 ?_
    refine lv_bipush hx hb dX4_init_622 kb_32 ?_
    obtain ⟨V_209, e_210, h⟩ := bO_e h
    refine vs_i S hK hV hS e_210 dX4_init_624 (fun H locs hV hS => ?_)
    refine lv_dup hx hb dX4_init_625 rfl ?_
    refine lv_bipush hx hb dX4_init_626 kb_102 ?_
    refine lv_bipush hx hb dX4_init_628 kb_108 ?_
    obtain ⟨V_211, e_212, h⟩ := bO_e h
    refine vs_i S hK hV hS e_212 dX4_init_630 (fun H locs hV hS => ?_)
    refine lv_dup hx hb dX4_init_631 rfl ?_
    refine lv_bipush hx hb dX4_init_632 kb_103 ?_
    refine lv_bipush hx hb dX4_init_634 kb_101 ?_
    obtain ⟨V_213, e_214, h⟩ := bO_e h
    refine vs_i S hK hV hS e_214 dX4_init_636 (fun H locs hV hS => ?_)
    refine lv_dup hx hb dX4_init_637 rfl ?_
    refine lv_bipush hx hb dX4_init_638 kb_104 ?_
    refine lv_bipush hx hb dX4_init_640 kb_100 ?_
    obtain ⟨V_215, e_216, h⟩ := bO_e h
    refine vs_i S hK hV hS e_216 dX4_init_642 (fun H locs hV hS => ?_)
    refine lv_dup hx hb dX4_init_643 rfl ?_
    refine lv_bipush hx hb dX4_init_644 kb_105 ?_
    refine lv_bipush hx hb dX4_init_646 kb_32 ?_
    obtain ⟨V_217, e_218, h⟩ := bO_e h
    refine vs_i S hK hV hS e_218 dX4_init_648 (fun H locs hV hS => ?_)
    exact C649 _ _ _ _ _ _ _ hV hS hk (lv_sub hl [0] rfl) h
  have C505 : ∀ (t0 : Nat) (V : VS) (kc ks : Nat) (H : Heap) (locs : List Loc) (ls : Array Slot), HV D A V H → va_S A s.heap H locs → (kc ≤ MC ∧ ks ≤ MS) → lv_has ls 1 [(0, .ref a0)] → vX4_init_c505 cA a0 MC MS Vs Post t0 V kc ks → W p l e (rX4_init MC MS) s m args below meth c H locs kc ks (MQ below (va_Qv (S := MSt × (Nat → Nat)) (fun u => Post u.1 u.2) (fun u t => mAd a0 u.2 ∧ va_P D vwCl (mo cA a0 u.2 u.1) t.heap ∧ HV D A Vs t.heap ∧ ∀ k ∈ mAF, A (u.2 k)) A) args s MC MS A) (F0 m 505 ls [.ref t0, .ref a0]) := by
    intro t0 V kc ks H locs ls hV hS hk hl h
    unfold vX4_init_c505 at h
    refine lv_dup hx hb dX4_init_505 rfl ?_
    refine lv_bipush hx hb dX4_init_506 kb_82 ?_
    refine lv_bipush hx hb dX4_init_508 kb_32 ?_
    obtain ⟨V_171, e_172, h⟩ := bO_e h
    refine vs_i S hK hV hS e_172 dX4_init_510 (fun H locs hV hS => ?_)
    refine lv_dup hx hb dX4_init_511 rfl ?_
    refine lv_bipush hx hb dX4_init_512 kb_83 ?_
    refine lv_bipush hx hb dX4_init_514 kb_97 ?_
    obtain ⟨V_173, e_174, h⟩ := bO_e h
    refine vs_i S hK hV hS e_174 dX4_init_516 (fun H locs hV hS => ?_)
    refine lv_dup hx hb dX4_init_517 rfl ?_
    refine lv_bipush hx hb dX4_init_518 kb_84 ?_
    refine lv_bipush hx hb dX4_init_520 kb_103 ?_
    obtain ⟨V_175, e_176, h⟩ := bO_e h
    refine vs_i S hK hV hS e_176 dX4_init_522 (fun H locs hV hS => ?_)
    refine lv_dup hx hb dX4_init_523 rfl ?_
    refine lv_bipush hx hb dX4_init_524 kb_85 ?_
    refine lv_bipush hx hb dX4_init_526 kb_101 ?_
    obtain ⟨V_177, e_178, h⟩ := bO_e h
    refine vs_i S hK hV hS e_178 dX4_init_528 (fun H locs hV hS => ?_)
    refine lv_dup hx hb dX4_init_529 rfl ?_
    refine lv_bipush hx hb dX4_init_530 kb_86 ?_
    refine lv_bipush hx hb dX4_init_532 kb_32 ?_
    obtain ⟨V_179, e_180, h⟩ := bO_e h
    refine vs_i S hK hV hS e_180 dX4_init_534 (fun H locs hV hS => ?_)
    refine lv_dup hx hb dX4_init_535 rfl ?_
    refine lv_bipush hx hb dX4_init_536 kb_87 ?_
    refine lv_bipush hx hb dX4_init_538 kb_104 ?_
    obtain ⟨V_181, e_182, h⟩ := bO_e h
    refine vs_i S hK hV hS e_182 dX4_init_540 (fun H locs hV hS => ?_)
    refine lv_dup hx hb dX4_init_541 rfl ?_
    refine lv_bipush hx hb dX4_init_542 kb_88 ?_
    refine lv_bipush hx hb dX4_init_544 kb_111 ?_
    obtain ⟨V_183, e_184, h⟩ := bO_e h
    refine vs_i S hK hV hS e_184 dX4_init_546 (fun H locs hV hS => ?_)
    refine lv_dup hx hb dX4_init_547 rfl ?_
    refine lv_bipush hx hb dX4_init_548 kb_89 ?_
    refine lv_bipush hx hb dX4_init_550 kb_117 ?_
    obtain ⟨V_185, e_186, h⟩ := bO_e h
    refine vs_i S hK hV hS e_186 dX4_init_552 (fun H locs hV hS => ?_)
    refine lv_dup hx hb dX4_init_553 rfl ?_
    refine lv_bipush hx hb dX4_init_554 kb_90 ?_
    refine lv_bipush hx hb dX4_init_556 kb_114 ?_
    obtain ⟨V_187, e_188, h⟩ := bO_e h
    refine vs_i S hK hV hS e_188 dX4_init_558 (fun H locs hV hS => ?_)
    refine lv_dup hx hb dX4_init_559 rfl ?_
    refine lv_bipush hx hb dX4_init_560 kb_91 ?_
    refine lv_bipush hx hb dX4_init_562 kb_115 ?_
    obtain ⟨V_189, e_190, h⟩ := bO_e h
    refine vs_i S hK hV hS e_190 dX4_init_564 (fun H locs hV hS => ?_)
    refine lv_dup hx hb dX4_init_565 rfl ?_
    refine lv_bipush hx hb dX4_init_566 kb_92 ?_
    refine lv_bipush hx hb dX4_init_568 kb_32 ?_
    obtain ⟨V_191, e_192, h⟩ := bO_e h
    refine vs_i S hK hV hS e_192 dX4_init_570 (fun H locs hV hS => ?_)
    refine lv_dup hx hb dX4_init_571 rfl ?_
    refine lv_bipush hx hb dX4_init_572 kb_93 ?_
    refine lv_bipush hx hb dX4_init_574 kb_111 ?_
    obtain ⟨V_193, e_194, h⟩ := bO_e h
    refine vs_i S hK hV hS e_194 dX4_init_576 (fun H locs hV hS => ?_)
    exact C577 _ _ _ _ _ _ _ hV hS hk (lv_sub hl [0] rfl) h
  have C433 : ∀ (t0 : Nat) (V : VS) (kc ks : Nat) (H : Heap) (locs : List Loc) (ls : Array Slot), HV D A V H → va_S A s.heap H locs → (kc ≤ MC ∧ ks ≤ MS) → lv_has ls 1 [(0, .ref a0)] → vX4_init_c433 cA a0 MC MS Vs Post t0 V kc ks → W p l e (rX4_init MC MS) s m args below meth c H locs kc ks (MQ below (va_Qv (S := MSt × (Nat → Nat)) (fun u => Post u.1 u.2) (fun u t => mAd a0 u.2 ∧ va_P D vwCl (mo cA a0 u.2 u.1) t.heap ∧ HV D A Vs t.heap ∧ ∀ k ∈ mAF, A (u.2 k)) A) args s MC MS A) (F0 m 433 ls [.ref t0, .ref a0]) := by
    intro t0 V kc ks H locs ls hV hS hk hl h
    unfold vX4_init_c433 at h
    refine lv_dup hx hb dX4_init_433 rfl ?_
    refine lv_bipush hx hb dX4_init_434 kb_70 ?_
    refine lv_bipush hx hb dX4_init_436 kb_101 ?_
    obtain ⟨V_147, e_148, h⟩ := bO_e h
    refine vs_i S hK hV hS e_148 dX4_init_438 (fun H locs hV hS => ?_)
    refine lv_dup hx hb dX4_init_439 rfl ?_
    refine lv_bipush hx hb dX4_init_440 kb_71 ?_
    refine lv_bipush hx hb dX4_init_442 kb_32 ?_
    obtain ⟨V_149, e_150, h⟩ := bO_e h
    refine vs_i S hK hV hS e_150 dX4_init_444 (fun H locs hV hS => ?_)
    refine lv_dup hx hb dX4_init_445 rfl ?_
    refine lv_bipush hx hb dX4_init_446 kb_72 ?_
    refine lv_bipush hx hb dX4_init_448 kb_97 ?_
    obtain ⟨V_151, e_152, h⟩ := bO_e h
    refine vs_i S hK hV hS e_152 dX4_init_450 (fun H locs hV hS => ?_)
    refine lv_dup hx hb dX4_init_451 rfl ?_
    refine lv_bipush hx hb dX4_init_452 kb_73 ?_
    refine lv_bipush hx hb dX4_init_454 kb_110 ?_
    obtain ⟨V_153, e_154, h⟩ := bO_e h
    refine vs_i S hK hV hS e_154 dX4_init_456 (fun H locs hV hS => ?_)
    refine lv_dup hx hb dX4_init_457 rfl ?_
    refine lv_bipush hx hb dX4_init_458 kb_74 ?_
    refine lv_bipush hx hb dX4_init_460 kb_100 ?_
    obtain ⟨V_155, e_156, h⟩ := bO_e h
    refine vs_i S hK hV hS e_156 dX4_init_462 (fun H locs hV hS => ?_)
    refine lv_dup hx hb dX4_init_463 rfl ?_
    refine lv_bipush hx hb dX4_init_464 kb_75 ?_
    refine lv_bipush hx hb dX4_init_466 kb_32 ?_
    obtain ⟨V_157, e_158, h⟩ := bO_e h
    refine vs_i S hK hV hS e_158 dX4_init_468 (fun H locs hV hS => ?_)
    refine lv_dup hx hb dX4_init_469 rfl ?_
    refine lv_bipush hx hb dX4_init_470 kb_76 ?_
    refine lv_bipush hx hb dX4_init_472 kb_111 ?_
    obtain ⟨V_159, e_160, h⟩ := bO_e h
    refine vs_i S hK hV hS e_160 dX4_init_474 (fun H locs hV hS => ?_)
    refine lv_dup hx hb dX4_init_475 rfl ?_
    refine lv_bipush hx hb dX4_init_476 kb_77 ?_
    refine lv_bipush hx hb dX4_init_478 kb_114 ?_
    obtain ⟨V_161, e_162, h⟩ := bO_e h
    refine vs_i S hK hV hS e_162 dX4_init_480 (fun H locs hV hS => ?_)
    refine lv_dup hx hb dX4_init_481 rfl ?_
    refine lv_bipush hx hb dX4_init_482 kb_78 ?_
    refine lv_bipush hx hb dX4_init_484 kb_32 ?_
    obtain ⟨V_163, e_164, h⟩ := bO_e h
    refine vs_i S hK hV hS e_164 dX4_init_486 (fun H locs hV hS => ?_)
    refine lv_dup hx hb dX4_init_487 rfl ?_
    refine lv_bipush hx hb dX4_init_488 kb_79 ?_
    refine lv_bipush hx hb dX4_init_490 kb_110 ?_
    obtain ⟨V_165, e_166, h⟩ := bO_e h
    refine vs_i S hK hV hS e_166 dX4_init_492 (fun H locs hV hS => ?_)
    refine lv_dup hx hb dX4_init_493 rfl ?_
    refine lv_bipush hx hb dX4_init_494 kb_80 ?_
    refine lv_bipush hx hb dX4_init_496 kb_111 ?_
    obtain ⟨V_167, e_168, h⟩ := bO_e h
    refine vs_i S hK hV hS e_168 dX4_init_498 (fun H locs hV hS => ?_)
    refine lv_dup hx hb dX4_init_499 rfl ?_
    refine lv_bipush hx hb dX4_init_500 kb_81 ?_
    refine lv_bipush hx hb dX4_init_502 kb_116 ?_
    obtain ⟨V_169, e_170, h⟩ := bO_e h
    refine vs_i S hK hV hS e_170 dX4_init_504 (fun H locs hV hS => ?_)
    exact C505 _ _ _ _ _ _ _ hV hS hk (lv_sub hl [0] rfl) h
  have C361 : ∀ (t0 : Nat) (V : VS) (kc ks : Nat) (H : Heap) (locs : List Loc) (ls : Array Slot), HV D A V H → va_S A s.heap H locs → (kc ≤ MC ∧ ks ≤ MS) → lv_has ls 1 [(0, .ref a0)] → vX4_init_c361 cA a0 MC MS Vs Post t0 V kc ks → W p l e (rX4_init MC MS) s m args below meth c H locs kc ks (MQ below (va_Qv (S := MSt × (Nat → Nat)) (fun u => Post u.1 u.2) (fun u t => mAd a0 u.2 ∧ va_P D vwCl (mo cA a0 u.2 u.1) t.heap ∧ HV D A Vs t.heap ∧ ∀ k ∈ mAF, A (u.2 k)) A) args s MC MS A) (F0 m 361 ls [.ref t0, .ref a0]) := by
    intro t0 V kc ks H locs ls hV hS hk hl h
    unfold vX4_init_c361 at h
    refine lv_dup hx hb dX4_init_361 rfl ?_
    refine lv_bipush hx hb dX4_init_362 kb_58 ?_
    refine lv_bipush hx hb dX4_init_364 kb_105 ?_
    obtain ⟨V_123, e_124, h⟩ := bO_e h
    refine vs_i S hK hV hS e_124 dX4_init_366 (fun H locs hV hS => ?_)
    refine lv_dup hx hb dX4_init_367 rfl ?_
    refine lv_bipush hx hb dX4_init_368 kb_59 ?_
    refine lv_bipush hx hb dX4_init_370 kb_110 ?_
    obtain ⟨V_125, e_126, h⟩ := bO_e h
    refine vs_i S hK hV hS e_126 dX4_init_372 (fun H locs hV hS => ?_)
    refine lv_dup hx hb dX4_init_373 rfl ?_
    refine lv_bipush hx hb dX4_init_374 kb_60 ?_
    refine lv_bipush hx hb dX4_init_376 kb_115 ?_
    obtain ⟨V_127, e_128, h⟩ := bO_e h
    refine vs_i S hK hV hS e_128 dX4_init_378 (fun H locs hV hS => ?_)
    refine lv_dup hx hb dX4_init_379 rfl ?_
    refine lv_bipush hx hb dX4_init_380 kb_61 ?_
    refine lv_bipush hx hb dX4_init_382 kb_32 ?_
    obtain ⟨V_129, e_130, h⟩ := bO_e h
    refine vs_i S hK hV hS e_130 dX4_init_384 (fun H locs hV hS => ?_)
    refine lv_dup hx hb dX4_init_385 rfl ?_
    refine lv_bipush hx hb dX4_init_386 kb_62 ?_
    refine lv_bipush hx hb dX4_init_388 kb_101 ?_
    obtain ⟨V_131, e_132, h⟩ := bO_e h
    refine vs_i S hK hV hS e_132 dX4_init_390 (fun H locs hV hS => ?_)
    refine lv_dup hx hb dX4_init_391 rfl ?_
    refine lv_bipush hx hb dX4_init_392 kb_63 ?_
    refine lv_bipush hx hb dX4_init_394 kb_110 ?_
    obtain ⟨V_133, e_134, h⟩ := bO_e h
    refine vs_i S hK hV hS e_134 dX4_init_396 (fun H locs hV hS => ?_)
    refine lv_dup hx hb dX4_init_397 rfl ?_
    refine lv_bipush hx hb dX4_init_398 kb_64 ?_
    refine lv_bipush hx hb dX4_init_400 kb_100 ?_
    obtain ⟨V_135, e_136, h⟩ := bO_e h
    refine vs_i S hK hV hS e_136 dX4_init_402 (fun H locs hV hS => ?_)
    refine lv_dup hx hb dX4_init_403 rfl ?_
    refine lv_bipush hx hb dX4_init_404 kb_65 ?_
    refine lv_bipush hx hb dX4_init_406 kb_115 ?_
    obtain ⟨V_137, e_138, h⟩ := bO_e h
    refine vs_i S hK hV hS e_138 dX4_init_408 (fun H locs hV hS => ?_)
    refine lv_dup hx hb dX4_init_409 rfl ?_
    refine lv_bipush hx hb dX4_init_410 kb_66 ?_
    refine lv_bipush hx hb dX4_init_412 kb_32 ?_
    obtain ⟨V_139, e_140, h⟩ := bO_e h
    refine vs_i S hK hV hS e_140 dX4_init_414 (fun H locs hV hS => ?_)
    refine lv_dup hx hb dX4_init_415 rfl ?_
    refine lv_bipush hx hb dX4_init_416 kb_67 ?_
    refine lv_bipush hx hb dX4_init_418 kb_116 ?_
    obtain ⟨V_141, e_142, h⟩ := bO_e h
    refine vs_i S hK hV hS e_142 dX4_init_420 (fun H locs hV hS => ?_)
    refine lv_dup hx hb dX4_init_421 rfl ?_
    refine lv_bipush hx hb dX4_init_422 kb_68 ?_
    refine lv_bipush hx hb dX4_init_424 kb_97 ?_
    obtain ⟨V_143, e_144, h⟩ := bO_e h
    refine vs_i S hK hV hS e_144 dX4_init_426 (fun H locs hV hS => ?_)
    refine lv_dup hx hb dX4_init_427 rfl ?_
    refine lv_bipush hx hb dX4_init_428 kb_69 ?_
    refine lv_bipush hx hb dX4_init_430 kb_112 ?_
    obtain ⟨V_145, e_146, h⟩ := bO_e h
    refine vs_i S hK hV hS e_146 dX4_init_432 (fun H locs hV hS => ?_)
    exact C433 _ _ _ _ _ _ _ hV hS hk (lv_sub hl [0] rfl) h
  have C289 : ∀ (t0 : Nat) (V : VS) (kc ks : Nat) (H : Heap) (locs : List Loc) (ls : Array Slot), HV D A V H → va_S A s.heap H locs → (kc ≤ MC ∧ ks ≤ MS) → lv_has ls 1 [(0, .ref a0)] → vX4_init_c289 cA a0 MC MS Vs Post t0 V kc ks → W p l e (rX4_init MC MS) s m args below meth c H locs kc ks (MQ below (va_Qv (S := MSt × (Nat → Nat)) (fun u => Post u.1 u.2) (fun u t => mAd a0 u.2 ∧ va_P D vwCl (mo cA a0 u.2 u.1) t.heap ∧ HV D A Vs t.heap ∧ ∀ k ∈ mAF, A (u.2 k)) A) args s MC MS A) (F0 m 289 ls [.ref t0, .ref a0]) := by
    intro t0 V kc ks H locs ls hV hS hk hl h
    unfold vX4_init_c289 at h
    refine lv_dup hx hb dX4_init_289 rfl ?_
    refine lv_bipush hx hb dX4_init_290 kb_46 ?_
    refine lv_bipush hx hb dX4_init_292 kb_114 ?_
    obtain ⟨V_99, e_100, h⟩ := bO_e h
    refine vs_i S hK hV hS e_100 dX4_init_294 (fun H locs hV hS => ?_)
    refine lv_dup hx hb dX4_init_295 rfl ?_
    refine lv_bipush hx hb dX4_init_296 kb_47 ?_
    refine lv_bipush hx hb dX4_init_298 kb_32 ?_
    obtain ⟨V_101, e_102, h⟩ := bO_e h
    refine vs_i S hK hV hS e_102 dX4_init_300 (fun H locs hV hS => ?_)
    refine lv_dup hx hb dX4_init_301 rfl ?_
    refine lv_bipush hx hb dX4_init_302 kb_48 ?_
    refine lv_bipush hx hb dX4_init_304 kb_112 ?_
    obtain ⟨V_103, e_104, h⟩ := bO_e h
    refine vs_i S hK hV hS e_104 dX4_init_306 (fun H locs hV hS => ?_)
    refine lv_dup hx hb dX4_init_307 rfl ?_
    refine lv_bipush hx hb dX4_init_308 kb_49 ?_
    refine lv_bipush hx hb dX4_init_310 kb_111 ?_
    obtain ⟨V_105, e_106, h⟩ := bO_e h
    refine vs_i S hK hV hS e_106 dX4_init_312 (fun H locs hV hS => ?_)
    refine lv_dup hx hb dX4_init_313 rfl ?_
    refine lv_bipush hx hb dX4_init_314 kb_50 ?_
    refine lv_bipush hx hb dX4_init_316 kb_108 ?_
    obtain ⟨V_107, e_108, h⟩ := bO_e h
    refine vs_i S hK hV hS e_108 dX4_init_318 (fun H locs hV hS => ?_)
    refine lv_dup hx hb dX4_init_319 rfl ?_
    refine lv_bipush hx hb dX4_init_320 kb_51 ?_
    refine lv_bipush hx hb dX4_init_322 kb_105 ?_
    obtain ⟨V_109, e_110, h⟩ := bO_e h
    refine vs_i S hK hV hS e_110 dX4_init_324 (fun H locs hV hS => ?_)
    refine lv_dup hx hb dX4_init_325 rfl ?_
    refine lv_bipush hx hb dX4_init_326 kb_52 ?_
    refine lv_bipush hx hb dX4_init_328 kb_99 ?_
    obtain ⟨V_111, e_112, h⟩ := bO_e h
    refine vs_i S hK hV hS e_112 dX4_init_330 (fun H locs hV hS => ?_)
    refine lv_dup hx hb dX4_init_331 rfl ?_
    refine lv_bipush hx hb dX4_init_332 kb_53 ?_
    refine lv_bipush hx hb dX4_init_334 kb_101 ?_
    obtain ⟨V_113, e_114, h⟩ := bO_e h
    refine vs_i S hK hV hS e_114 dX4_init_336 (fun H locs hV hS => ?_)
    refine lv_dup hx hb dX4_init_337 rfl ?_
    refine lv_bipush hx hb dX4_init_338 kb_54 ?_
    refine lv_bipush hx hb dX4_init_340 kb_32 ?_
    obtain ⟨V_115, e_116, h⟩ := bO_e h
    refine vs_i S hK hV hS e_116 dX4_init_342 (fun H locs hV hS => ?_)
    refine lv_dup hx hb dX4_init_343 rfl ?_
    refine lv_bipush hx hb dX4_init_344 kb_55 ?_
    refine lv_bipush hx hb dX4_init_346 kb_98 ?_
    obtain ⟨V_117, e_118, h⟩ := bO_e h
    refine vs_i S hK hV hS e_118 dX4_init_348 (fun H locs hV hS => ?_)
    refine lv_dup hx hb dX4_init_349 rfl ?_
    refine lv_bipush hx hb dX4_init_350 kb_56 ?_
    refine lv_bipush hx hb dX4_init_352 kb_101 ?_
    obtain ⟨V_119, e_120, h⟩ := bO_e h
    refine vs_i S hK hV hS e_120 dX4_init_354 (fun H locs hV hS => ?_)
    refine lv_dup hx hb dX4_init_355 rfl ?_
    refine lv_bipush hx hb dX4_init_356 kb_57 ?_
    refine lv_bipush hx hb dX4_init_358 kb_103 ?_
    obtain ⟨V_121, e_122, h⟩ := bO_e h
    refine vs_i S hK hV hS e_122 dX4_init_360 (fun H locs hV hS => ?_)
    exact C361 _ _ _ _ _ _ _ hV hS hk (lv_sub hl [0] rfl) h
  have C217 : ∀ (t0 : Nat) (V : VS) (kc ks : Nat) (H : Heap) (locs : List Loc) (ls : Array Slot), HV D A V H → va_S A s.heap H locs → (kc ≤ MC ∧ ks ≤ MS) → lv_has ls 1 [(0, .ref a0)] → vX4_init_c217 cA a0 MC MS Vs Post t0 V kc ks → W p l e (rX4_init MC MS) s m args below meth c H locs kc ks (MQ below (va_Qv (S := MSt × (Nat → Nat)) (fun u => Post u.1 u.2) (fun u t => mAd a0 u.2 ∧ va_P D vwCl (mo cA a0 u.2 u.1) t.heap ∧ HV D A Vs t.heap ∧ ∀ k ∈ mAF, A (u.2 k)) A) args s MC MS A) (F0 m 217 ls [.ref t0, .ref a0]) := by
    intro t0 V kc ks H locs ls hV hS hk hl h
    unfold vX4_init_c217 at h
    refine lv_dup hx hb dX4_init_217 rfl ?_
    refine lv_bipush hx hb dX4_init_218 kb_34 ?_
    refine lv_bipush hx hb dX4_init_220 kb_106 ?_
    obtain ⟨V_75, e_76, h⟩ := bO_e h
    refine vs_i S hK hV hS e_76 dX4_init_222 (fun H locs hV hS => ?_)
    refine lv_dup hx hb dX4_init_223 rfl ?_
    refine lv_bipush hx hb dX4_init_224 kb_35 ?_
    refine lv_bipush hx hb dX4_init_226 kb_117 ?_
    obtain ⟨V_77, e_78, h⟩ := bO_e h
    refine vs_i S hK hV hS e_78 dX4_init_228 (fun H locs hV hS => ?_)
    refine lv_dup hx hb dX4_init_229 rfl ?_
    refine lv_bipush hx hb dX4_init_230 kb_36 ?_
    refine lv_bipush hx hb dX4_init_232 kb_114 ?_
    obtain ⟨V_79, e_80, h⟩ := bO_e h
    refine vs_i S hK hV hS e_80 dX4_init_234 (fun H locs hV hS => ?_)
    refine lv_dup hx hb dX4_init_235 rfl ?_
    refine lv_bipush hx hb dX4_init_236 kb_37 ?_
    refine lv_bipush hx hb dX4_init_238 kb_121 ?_
    obtain ⟨V_81, e_82, h⟩ := bO_e h
    refine vs_i S hK hV hS e_82 dX4_init_240 (fun H locs hV hS => ?_)
    refine lv_dup hx hb dX4_init_241 rfl ?_
    refine lv_bipush hx hb dX4_init_242 kb_38 ?_
    refine lv_bipush hx hb dX4_init_244 kb_32 ?_
    obtain ⟨V_83, e_84, h⟩ := bO_e h
    refine vs_i S hK hV hS e_84 dX4_init_246 (fun H locs hV hS => ?_)
    refine lv_dup hx hb dX4_init_247 rfl ?_
    refine lv_bipush hx hb dX4_init_248 kb_39 ?_
    refine lv_bipush hx hb dX4_init_250 kb_105 ?_
    obtain ⟨V_85, e_86, h⟩ := bO_e h
    refine vs_i S hK hV hS e_86 dX4_init_252 (fun H locs hV hS => ?_)
    refine lv_dup hx hb dX4_init_253 rfl ?_
    refine lv_bipush hx hb dX4_init_254 kb_40 ?_
    refine lv_bipush hx hb dX4_init_256 kb_115 ?_
    obtain ⟨V_87, e_88, h⟩ := bO_e h
    refine vs_i S hK hV hS e_88 dX4_init_258 (fun H locs hV hS => ?_)
    refine lv_dup hx hb dX4_init_259 rfl ?_
    refine lv_bipush hx hb dX4_init_260 kb_41 ?_
    refine lv_bipush hx hb dX4_init_262 kb_32 ?_
    obtain ⟨V_89, e_90, h⟩ := bO_e h
    refine vs_i S hK hV hS e_90 dX4_init_264 (fun H locs hV hS => ?_)
    refine lv_dup hx hb dX4_init_265 rfl ?_
    refine lv_bipush hx hb dX4_init_266 kb_42 ?_
    refine lv_bipush hx hb dX4_init_268 kb_112 ?_
    obtain ⟨V_91, e_92, h⟩ := bO_e h
    refine vs_i S hK hV hS e_92 dX4_init_270 (fun H locs hV hS => ?_)
    refine lv_dup hx hb dX4_init_271 rfl ?_
    refine lv_bipush hx hb dX4_init_272 kb_43 ?_
    refine lv_bipush hx hb dX4_init_274 kb_97 ?_
    obtain ⟨V_93, e_94, h⟩ := bO_e h
    refine vs_i S hK hV hS e_94 dX4_init_276 (fun H locs hV hS => ?_)
    refine lv_dup hx hb dX4_init_277 rfl ?_
    refine lv_bipush hx hb dX4_init_278 kb_44 ?_
    refine lv_bipush hx hb dX4_init_280 kb_112 ?_
    obtain ⟨V_95, e_96, h⟩ := bO_e h
    refine vs_i S hK hV hS e_96 dX4_init_282 (fun H locs hV hS => ?_)
    refine lv_dup hx hb dX4_init_283 rfl ?_
    refine lv_bipush hx hb dX4_init_284 kb_45 ?_
    refine lv_bipush hx hb dX4_init_286 kb_101 ?_
    obtain ⟨V_97, e_98, h⟩ := bO_e h
    refine vs_i S hK hV hS e_98 dX4_init_288 (fun H locs hV hS => ?_)
    exact C289 _ _ _ _ _ _ _ hV hS hk (lv_sub hl [0] rfl) h
  have C145 : ∀ (t0 : Nat) (V : VS) (kc ks : Nat) (H : Heap) (locs : List Loc) (ls : Array Slot), HV D A V H → va_S A s.heap H locs → (kc ≤ MC ∧ ks ≤ MS) → lv_has ls 1 [(0, .ref a0)] → vX4_init_c145 cA a0 MC MS Vs Post t0 V kc ks → W p l e (rX4_init MC MS) s m args below meth c H locs kc ks (MQ below (va_Qv (S := MSt × (Nat → Nat)) (fun u => Post u.1 u.2) (fun u t => mAd a0 u.2 ∧ va_P D vwCl (mo cA a0 u.2 u.1) t.heap ∧ HV D A Vs t.heap ∧ ∀ k ∈ mAF, A (u.2 k)) A) args s MC MS A) (F0 m 145 ls [.ref t0, .ref a0]) := by
    intro t0 V kc ks H locs ls hV hS hk hl h
    unfold vX4_init_c145 at h
    refine lv_dup hx hb dX4_init_145 rfl ?_
    refine lv_bipush hx hb dX4_init_146 kb_22 ?_
    refine lv_bipush hx hb dX4_init_148 kb_97 ?_
    obtain ⟨V_51, e_52, h⟩ := bO_e h
    refine vs_i S hK hV hS e_52 dX4_init_150 (fun H locs hV hS => ?_)
    refine lv_dup hx hb dX4_init_151 rfl ?_
    refine lv_bipush hx hb dX4_init_152 kb_23 ?_
    refine lv_bipush hx hb dX4_init_154 kb_103 ?_
    obtain ⟨V_53, e_54, h⟩ := bO_e h
    refine vs_i S hK hV hS e_54 dX4_init_156 (fun H locs hV hS => ?_)
    refine lv_dup hx hb dX4_init_157 rfl ?_
    refine lv_bipush hx hb dX4_init_158 kb_24 ?_
    refine lv_bipush hx hb dX4_init_160 kb_101 ?_
    obtain ⟨V_55, e_56, h⟩ := bO_e h
    refine vs_i S hK hV hS e_56 dX4_init_162 (fun H locs hV hS => ?_)
    refine lv_dup hx hb dX4_init_163 rfl ?_
    refine lv_bipush hx hb dX4_init_164 kb_25 ?_
    refine lv_bipush hx hb dX4_init_166 kb_32 ?_
    obtain ⟨V_57, e_58, h⟩ := bO_e h
    refine vs_i S hK hV hS e_58 dX4_init_168 (fun H locs hV hS => ?_)
    refine lv_dup hx hb dX4_init_169 rfl ?_
    refine lv_bipush hx hb dX4_init_170 kb_26 ?_
    refine lv_bipush hx hb dX4_init_172 kb_108 ?_
    obtain ⟨V_59, e_60, h⟩ := bO_e h
    refine vs_i S hK hV hS e_60 dX4_init_174 (fun H locs hV hS => ?_)
    refine lv_dup hx hb dX4_init_175 rfl ?_
    refine lv_bipush hx hb dX4_init_176 kb_27 ?_
    refine lv_bipush hx hb dX4_init_178 kb_97 ?_
    obtain ⟨V_61, e_62, h⟩ := bO_e h
    refine vs_i S hK hV hS e_62 dX4_init_180 (fun H locs hV hS => ?_)
    refine lv_dup hx hb dX4_init_181 rfl ?_
    refine lv_bipush hx hb dX4_init_182 kb_28 ?_
    refine lv_bipush hx hb dX4_init_184 kb_119 ?_
    obtain ⟨V_63, e_64, h⟩ := bO_e h
    refine vs_i S hK hV hS e_64 dX4_init_186 (fun H locs hV hS => ?_)
    refine lv_dup hx hb dX4_init_187 rfl ?_
    refine lv_bipush hx hb dX4_init_188 kb_29 ?_
    refine lv_bipush hx hb dX4_init_190 kb_32 ?_
    obtain ⟨V_65, e_66, h⟩ := bO_e h
    refine vs_i S hK hV hS e_66 dX4_init_192 (fun H locs hV hS => ?_)
    refine lv_dup hx hb dX4_init_193 rfl ?_
    refine lv_bipush hx hb dX4_init_194 kb_30 ?_
    refine lv_bipush hx hb dX4_init_196 kb_98 ?_
    obtain ⟨V_67, e_68, h⟩ := bO_e h
    refine vs_i S hK hV hS e_68 dX4_init_198 (fun H locs hV hS => ?_)
    refine lv_dup hx hb dX4_init_199 rfl ?_
    refine lv_bipush hx hb dX4_init_200 kb_31 ?_
    refine lv_bipush hx hb dX4_init_202 kb_97 ?_
    obtain ⟨V_69, e_70, h⟩ := bO_e h
    refine vs_i S hK hV hS e_70 dX4_init_204 (fun H locs hV hS => ?_)
    refine lv_dup hx hb dX4_init_205 rfl ?_
    refine lv_bipush hx hb dX4_init_206 kb_32 ?_
    refine lv_bipush hx hb dX4_init_208 kb_114 ?_
    obtain ⟨V_71, e_72, h⟩ := bO_e h
    refine vs_i S hK hV hS e_72 dX4_init_210 (fun H locs hV hS => ?_)
    refine lv_dup hx hb dX4_init_211 rfl ?_
    refine lv_bipush hx hb dX4_init_212 kb_33 ?_
    refine lv_bipush hx hb dX4_init_214 kb_32 ?_
    obtain ⟨V_73, e_74, h⟩ := bO_e h
    refine vs_i S hK hV hS e_74 dX4_init_216 (fun H locs hV hS => ?_)
    exact C217 _ _ _ _ _ _ _ hV hS hk (lv_sub hl [0] rfl) h
  have C73 : ∀ (t0 : Nat) (V : VS) (kc ks : Nat) (H : Heap) (locs : List Loc) (ls : Array Slot), HV D A V H → va_S A s.heap H locs → (kc ≤ MC ∧ ks ≤ MS) → lv_has ls 1 [(0, .ref a0)] → vX4_init_c73 cA a0 MC MS Vs Post t0 V kc ks → W p l e (rX4_init MC MS) s m args below meth c H locs kc ks (MQ below (va_Qv (S := MSt × (Nat → Nat)) (fun u => Post u.1 u.2) (fun u t => mAd a0 u.2 ∧ va_P D vwCl (mo cA a0 u.2 u.1) t.heap ∧ HV D A Vs t.heap ∧ ∀ k ∈ mAF, A (u.2 k)) A) args s MC MS A) (F0 m 73 ls [.ref t0, .ref a0]) := by
    intro t0 V kc ks H locs ls hV hS hk hl h
    unfold vX4_init_c73 at h
    refine lv_dup hx hb dX4_init_73 rfl ?_
    refine lv_bipush hx hb dX4_init_74 kb_10 ?_
    refine lv_bipush hx hb dX4_init_76 kb_101 ?_
    obtain ⟨V_27, e_28, h⟩ := bO_e h
    refine vs_i S hK hV hS e_28 dX4_init_78 (fun H locs hV hS => ?_)
    refine lv_dup hx hb dX4_init_79 rfl ?_
    refine lv_bipush hx hb dX4_init_80 kb_11 ?_
    refine lv_bipush hx hb dX4_init_82 kb_114 ?_
    obtain ⟨V_29, e_30, h⟩ := bO_e h
    refine vs_i S hK hV hS e_30 dX4_init_84 (fun H locs hV hS => ?_)
    refine lv_dup hx hb dX4_init_85 rfl ?_
    refine lv_bipush hx hb dX4_init_86 kb_12 ?_
    refine lv_bipush hx hb dX4_init_88 kb_32 ?_
    obtain ⟨V_31, e_32, h⟩ := bO_e h
    refine vs_i S hK hV hS e_32 dX4_init_90 (fun H locs hV hS => ?_)
    refine lv_dup hx hb dX4_init_91 rfl ?_
    refine lv_bipush hx hb dX4_init_92 kb_13 ?_
    refine lv_bipush hx hb dX4_init_94 kb_97 ?_
    obtain ⟨V_33, e_34, h⟩ := bO_e h
    refine vs_i S hK hV hS e_34 dX4_init_96 (fun H locs hV hS => ?_)
    refine lv_dup hx hb dX4_init_97 rfl ?_
    refine lv_bipush hx hb dX4_init_98 kb_14 ?_
    refine lv_bipush hx hb dX4_init_100 kb_115 ?_
    obtain ⟨V_35, e_36, h⟩ := bO_e h
    refine vs_i S hK hV hS e_36 dX4_init_102 (fun H locs hV hS => ?_)
    refine lv_dup hx hb dX4_init_103 rfl ?_
    refine lv_bipush hx hb dX4_init_104 kb_15 ?_
    refine lv_bipush hx hb dX4_init_106 kb_107 ?_
    obtain ⟨V_37, e_38, h⟩ := bO_e h
    refine vs_i S hK hV hS e_38 dX4_init_108 (fun H locs hV hS => ?_)
    refine lv_dup hx hb dX4_init_109 rfl ?_
    refine lv_bipush hx hb dX4_init_110 kb_16 ?_
    refine lv_bipush hx hb dX4_init_112 kb_32 ?_
    obtain ⟨V_39, e_40, h⟩ := bO_e h
    refine vs_i S hK hV hS e_40 dX4_init_114 (fun H locs hV hS => ?_)
    refine lv_dup hx hb dX4_init_115 rfl ?_
    refine lv_bipush hx hb dX4_init_116 kb_17 ?_
    refine lv_bipush hx hb dX4_init_118 kb_115 ?_
    obtain ⟨V_41, e_42, h⟩ := bO_e h
    refine vs_i S hK hV hS e_42 dX4_init_120 (fun H locs hV hS => ?_)
    refine lv_dup hx hb dX4_init_121 rfl ?_
    refine lv_bipush hx hb dX4_init_122 kb_18 ?_
    refine lv_bipush hx hb dX4_init_124 kb_97 ?_
    obtain ⟨V_43, e_44, h⟩ := bO_e h
    refine vs_i S hK hV hS e_44 dX4_init_126 (fun H locs hV hS => ?_)
    refine lv_dup hx hb dX4_init_127 rfl ?_
    refine lv_bipush hx hb dX4_init_128 kb_19 ?_
    refine lv_bipush hx hb dX4_init_130 kb_121 ?_
    obtain ⟨V_45, e_46, h⟩ := bO_e h
    refine vs_i S hK hV hS e_46 dX4_init_132 (fun H locs hV hS => ?_)
    refine lv_dup hx hb dX4_init_133 rfl ?_
    refine lv_bipush hx hb dX4_init_134 kb_20 ?_
    refine lv_bipush hx hb dX4_init_136 kb_32 ?_
    obtain ⟨V_47, e_48, h⟩ := bO_e h
    refine vs_i S hK hV hS e_48 dX4_init_138 (fun H locs hV hS => ?_)
    refine lv_dup hx hb dX4_init_139 rfl ?_
    refine lv_bipush hx hb dX4_init_140 kb_21 ?_
    refine lv_bipush hx hb dX4_init_142 kb_112 ?_
    obtain ⟨V_49, e_50, h⟩ := bO_e h
    refine vs_i S hK hV hS e_50 dX4_init_144 (fun H locs hV hS => ?_)
    exact C145 _ _ _ _ _ _ _ hV hS hk (lv_sub hl [0] rfl) h
  unfold vX4_init at h
  refine lv_aload_n hx hb dX4_init_0 rfl (lv_at hl 0 rfl) ?_
  refine W.objInit hx hb S.2.2.2.1 (S.2.2.2.2 _ q1407) (S.2.2.2.2 _ q181) (S.2.2.2.2 _ q182) rfl (hl.1.trans S.2.2.1.symm) rfl dX4_init_1 (Nat.le_of_ble_eq_true rfl) (Nat.le_of_ble_eq_true rfl) ?_
  refine W.eq (g2 := F0 m 4 ls []) rfl ?_
  refine lv_aload_n hx hb dX4_init_4 rfl (lv_at hl 0 rfl) ?_
  refine lv_sipush hx hb dX4_init_5 ks_800 ?_
  obtain ⟨hc1, hc2, h⟩ := h
  refine vw_arr (atype := .int) (ty := .int) (N' := 800) (a0 := (800, .inl (fun _ => 0))) S hK hV hS hA 0 q353 rfl rfl (fun C h => by cases h) (fun cA => rfl) (by decide) (by decide) (by decide) hc1 hc2 dX4_init_8 (fun q_1 V_2 H g1 g2 hV hS => ?_)
  replace h := h q_1 V_2 g1 g2
  have hk : 0 + 1 ≤ MC ∧ 0 + 800 ≤ MS := ⟨hc1, hc2⟩
  obtain ⟨V_3, e_4, h⟩ := bO_e h
  refine vp_v (v := .ref q_1) S hK hV hS fX4_7 (Or.inr ⟨hnm, by decide +kernel, by decide +kernel⟩) (va_rf_narA (r := some q_1)).1 (va_rf_narA (r := some q_1)).2 e_4 dX4_init_10 (fun H locs hV hS => ?_)
  refine lv_aload_n hx hb dX4_init_13 rfl (lv_at hl 0 rfl) ?_
  refine lv_sipush hx hb dX4_init_14 ks_132 ?_
  obtain ⟨hc1, hc2, h⟩ := h
  refine vw_arr (atype := .int) (ty := .int) (N' := 132) (a0 := (132, .inl (fun _ => 0))) S hK hV hS hA 0 q353 rfl rfl (fun C h => by cases h) (fun cA => rfl) (by decide) (by decide) (by decide) hc1 hc2 dX4_init_17 (fun q_5 V_6 H g1 g2 hV hS => ?_)
  replace h := h q_5 V_6 g1 g2
  have hk : 0 + 1 + 1 ≤ MC ∧ 0 + 800 + 132 ≤ MS := ⟨hc1, hc2⟩
  refine lv_dup hx hb dX4_init_19 rfl ?_
  refine lv_iconst hx hb dX4_init_20 kc_0 ?_
  refine lv_bipush hx hb dX4_init_21 kb_116 ?_
  obtain ⟨V_7, e_8, h⟩ := bO_e h
  refine vs_i S hK hV hS e_8 dX4_init_23 (fun H locs hV hS => ?_)
  refine lv_dup hx hb dX4_init_24 rfl ?_
  refine lv_iconst hx hb dX4_init_25 kc_1 ?_
  refine lv_bipush hx hb dX4_init_26 kb_104 ?_
  obtain ⟨V_9, e_10, h⟩ := bO_e h
  refine vs_i S hK hV hS e_10 dX4_init_28 (fun H locs hV hS => ?_)
  refine lv_dup hx hb dX4_init_29 rfl ?_
  refine lv_iconst hx hb dX4_init_30 kc_2 ?_
  refine lv_bipush hx hb dX4_init_31 kb_105 ?_
  obtain ⟨V_11, e_12, h⟩ := bO_e h
  refine vs_i S hK hV hS e_12 dX4_init_33 (fun H locs hV hS => ?_)
  refine lv_dup hx hb dX4_init_34 rfl ?_
  refine lv_iconst hx hb dX4_init_35 kc_3 ?_
  refine lv_bipush hx hb dX4_init_36 kb_110 ?_
  obtain ⟨V_13, e_14, h⟩ := bO_e h
  refine vs_i S hK hV hS e_14 dX4_init_38 (fun H locs hV hS => ?_)
  refine lv_dup hx hb dX4_init_39 rfl ?_
  refine lv_iconst hx hb dX4_init_40 kc_4 ?_
  refine lv_bipush hx hb dX4_init_41 kb_103 ?_
  obtain ⟨V_15, e_16, h⟩ := bO_e h
  refine vs_i S hK hV hS e_16 dX4_init_43 (fun H locs hV hS => ?_)
  refine lv_dup hx hb dX4_init_44 rfl ?_
  refine lv_iconst hx hb dX4_init_45 kc_5 ?_
  refine lv_bipush hx hb dX4_init_46 kb_32 ?_
  obtain ⟨V_17, e_18, h⟩ := bO_e h
  refine vs_i S hK hV hS e_18 dX4_init_48 (fun H locs hV hS => ?_)
  refine lv_dup hx hb dX4_init_49 rfl ?_
  refine lv_bipush hx hb dX4_init_50 kb_6 ?_
  refine lv_bipush hx hb dX4_init_52 kb_116 ?_
  obtain ⟨V_19, e_20, h⟩ := bO_e h
  refine vs_i S hK hV hS e_20 dX4_init_54 (fun H locs hV hS => ?_)
  refine lv_dup hx hb dX4_init_55 rfl ?_
  refine lv_bipush hx hb dX4_init_56 kb_7 ?_
  refine lv_bipush hx hb dX4_init_58 kb_101 ?_
  obtain ⟨V_21, e_22, h⟩ := bO_e h
  refine vs_i S hK hV hS e_22 dX4_init_60 (fun H locs hV hS => ?_)
  refine lv_dup hx hb dX4_init_61 rfl ?_
  refine lv_bipush hx hb dX4_init_62 kb_8 ?_
  refine lv_bipush hx hb dX4_init_64 kb_108 ?_
  obtain ⟨V_23, e_24, h⟩ := bO_e h
  refine vs_i S hK hV hS e_24 dX4_init_66 (fun H locs hV hS => ?_)
  refine lv_dup hx hb dX4_init_67 rfl ?_
  refine lv_bipush hx hb dX4_init_68 kb_9 ?_
  refine lv_bipush hx hb dX4_init_70 kb_108 ?_
  obtain ⟨V_25, e_26, h⟩ := bO_e h
  refine vs_i S hK hV hS e_26 dX4_init_72 (fun H locs hV hS => ?_)
  exact C73 _ _ _ _ _ _ _ hV hS hk (lv_sub hl [0] rfl) h
