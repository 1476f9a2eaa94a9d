def vX1_sure_c16 (cA : Nat → ClassId) (a0 : Int64) (Post : Int64 → VS → Prop) (PX : Nat → Nat → VS → Prop) (V : VS) : Prop := ∀ q_2 : Nat, PX 1 q_2 V
def vX1_sure (cA : Nat → ClassId) (a0 : Int64) (V : VS) (Post : Int64 → VS → Prop) (PX : Nat → Nat → VS → Prop) : Prop := ((1000000000000 : Int64) < a0 → (vX1_sure_c16 cA a0 Post PX V)) ∧ (¬ ((1000000000000 : Int64) < a0) → (((-1000000000000 : Int64) ≤ a0 → (Post a0 V)) ∧ (¬ ((-1000000000000 : Int64) ≤ a0) → (vX1_sure_c16 cA a0 Post PX V))))
abbrev rX1_sure : Room := { frames := 0, cells := 0, slots := 0, locals := 0 }
theorem cdX1_sure : yX1_sure.cls ≠ "java/lang/invoke/MethodHandle" ∧ yX1_sure.cls ≠ "java/lang/invoke/VarHandle" ∧ (parseMethodDescriptor yX1_sure.desc).map (fun d => d.parameters.length) = some 1 := by decide +kernel
set_option maxHeartbeats 4000000 in
set_option maxRecDepth 100000 in
theorem mvX1_sure (l : Launch) {D : va_G} {cA : Nat → ClassId} {A : Nat → Prop} (a0 : Int64) (V : VS) (Post : Int64 → VS → Prop) (PX : Nat → Nat → VS → Prop) (h : vX1_sure cA a0 V Post PX) : vx_Met l yX1_sure (ws_ yX1_sure cX1_sure 2 (some (.long))) rX1_sure (vPc [.long a0] D cA A V) (va_Ql Post (vB D A) A) (vX D A PX) 0 0 A := by
  refine vst (own := RX1) (by decide) rfl (Nat.le_of_ble_eq_true rfl) ?_
  intro p e s m args below meth c ls X hret hV hS hl
  obtain ⟨S, hK, hG, hA, hnm, hlocks, htab⟩ := X
  have hx := S.1
  have hb := S.2.1
  have hl : lv_has ls 2 [(0, .long a0)] := hl
  have C16 : ∀ (V : VS) (H : Heap) (locs : List Loc) (ls : Array Slot), HV D A V H → va_S A s.heap H locs → lv_has ls 2 [(0, .long a0)] → vX1_sure_c16 cA a0 Post PX V → W p l e rX1_sure s m args below meth c H locs 0 0 (vx_MQ below (va_Ql Post (vB D A) A) (vX D A PX) args s 0 0 A) (F0 m 16 ls []) := by
    intro V H locs ls hV hS hl h
    unfold vX1_sure_c16 at h
    refine vgs_T S hG hS q1248 dX1_sure_16 (fun q_2 ce ge1 ge2 ge3 => ?_)
    replace h := h q_2
    exact vt_T hx hb htab hlocks hV hS ge1 ge2 ge3 h (Nat.le_refl _) (Nat.le_refl _) dX1_sure_19
  unfold vX1_sure at h
  refine lv_lload_n hx hb dX1_sure_0 rfl (lv_at hl 0 rfl) ?_
  refine lv_ldc2 (own := RX1) (v := 1000000000000) hx hb S.2.2.2.1 (S.2.2.2.2 _ q1246) dX1_sure_1 ?_
  refine W.lcmp hx hb dX1_sure_4 ?_
  refine lv_if_gt (tgt := 16) hx hb dX1_sure_5 (by decide) (fun c_1 => ?_) (fun c_1 => ?_)
  · replace h := h.1 ((lg_cmp_gt _ _).mp c_1)
    exact C16 _ _ _ _ hV hS (lv_sub hl [0] rfl) h
  · replace h := h.2 (fun q => c_1 ((lg_cmp_gt _ _).mpr q))
    refine lv_lload_n hx hb dX1_sure_8 rfl (lv_at hl 0 rfl) ?_
    refine lv_ldc2 (own := RX1) (v := -1000000000000) hx hb S.2.2.2.1 (S.2.2.2.2 _ q1247) dX1_sure_9 ?_
    refine W.lcmp hx hb dX1_sure_12 ?_
    refine lv_if_ge (tgt := 20) hx hb dX1_sure_13 (by decide) (fun c_3 => ?_) (fun c_3 => ?_)
    · replace h := h.1 ((lg_cmp_ge _ _).mp c_3)
      refine lv_lload_n hx hb dX1_sure_20 rfl (lv_at hl 0 rfl) ?_
      exact vx_ret (ve_l S hlocks hret hV hS h (Nat.le_refl _) (Nat.le_refl _) dX1_sure_21)
    · replace h := h.2 (fun q => c_3 ((lg_cmp_ge _ _).mpr q))
      exact C16 _ _ _ _ hV hS (lv_sub hl [0] rfl) h
def vX16_times (cA : Nat → ClassId) (a0 : Int64) (a2 : Int64) (V : VS) (Post : Int64 → VS → Prop) (PX : Nat → Nat → VS → Prop) : Prop := (a0 = (0 : Int64) → (Post (a0 * a2) V)) ∧ (¬ (a0 = (0 : Int64)) → (∀ v_2 : Int64, v_2 = (if 0 < a2 then a2 else -a2) → ∀ v_3 : Int64, v_3 = (if 0 < a0 then a0 else -a0) → (¬ v_3 = 0 ∧ (v_2 ≤ ((1000000000000 : Int64) / v_3) → (Post (a0 * a2) V)) ∧ (¬ (v_2 ≤ ((1000000000000 : Int64) / v_3)) → (∀ q_5 : Nat, PX 1 q_5 V)))))
abbrev rX16_times : Room := { frames := 1, cells := 0, slots := 0, locals := 24 }
theorem cdX16_times : yX16_times.cls ≠ "java/lang/invoke/MethodHandle" ∧ yX16_times.cls ≠ "java/lang/invoke/VarHandle" ∧ (parseMethodDescriptor yX16_times.desc).map (fun d => d.parameters.length) = some 2 := by decide +kernel
set_option maxHeartbeats 4000000 in
set_option maxRecDepth 100000 in
theorem mvX16_times (l : Launch) {D : va_G} {cA : Nat → ClassId} {A : Nat → Prop} (a0 : Int64) (a2 : Int64) (V : VS) (Post : Int64 → VS → Prop) (PX : Nat → Nat → VS → Prop) (h : vX16_times cA a0 a2 V Post PX) : vx_Met l yX16_times (ws_ yX16_times cX16_times 4 (some (.long))) rX16_times (vPc [.long a0, .long a2] D cA A V) (va_Ql Post (vB D A) A) (vX D A PX) 0 0 A := by
  refine vst (own := RX16) (by decide) rfl (Nat.le_of_ble_eq_true rfl) ?_
  intro p e s m args below meth c ls X hret hV hS hl
  obtain ⟨S, hK, hG, hA, hnm, hlocks, htab⟩ := X
  have hx := S.1
  have hb := S.2.1
  have hl : lv_has ls 4 [(0, .long a0), (2, .long a2)] := hl
  unfold vX16_times at h
  refine lv_lload_n hx hb dX16_times_0 rfl (lv_at hl 0 rfl) ?_
  refine lv_lconst (v := 0) hx hb dX16_times_1 rfl ?_
  refine W.lcmp hx hb dX16_times_2 ?_
  refine lv_if_eq (tgt := 26) hx hb dX16_times_3 (by decide) (fun c_1 => ?_) (fun c_1 => ?_)
  · replace h := h.1 ((lg_cmp_eq _ _).mp c_1)
    refine lv_lload_n hx hb dX16_times_26 rfl (lv_at hl 0 rfl) ?_
    refine lv_lload_n hx hb dX16_times_27 rfl (lv_at hl 1 rfl) ?_
    refine lv_lmul hx hb dX16_times_28 ?_
    exact vx_ret (ve_l S hlocks hret hV hS h (Nat.le_refl _) (Nat.le_refl _) dX16_times_29)
  · replace h := h.2 (fun q => c_1 ((lg_cmp_eq _ _).mpr q))
    refine lv_lload_n hx hb dX16_times_6 rfl (lv_at hl 1 rfl) ?_
    refine va_mabs_long hx hb (S.2.2.1.trans hl.1.symm) S.2.2.2.1 (S.2.2.2.2 _ q1253) (S.2.2.2.2 _ q1254) (S.2.2.2.2 _ q150) (S.2.2.2.2 _ q1255) (Nat.le_of_ble_eq_true rfl) (Nat.le_of_ble_eq_true rfl) (Nat.le_refl _) (Nat.le_refl _) dX16_times_7 ?_
    refine lv_topl (fun v_2 e_v_2 => ?_)
    replace h := h v_2 e_v_2
    refine lv_ldc2 (own := RX16) (v := 1000000000000) hx hb S.2.2.2.1 (S.2.2.2.2 _ q1256) dX16_times_10 ?_
    refine lv_lload_n hx hb dX16_times_13 rfl (lv_at hl 0 rfl) ?_
    refine va_mabs_long hx hb (S.2.2.1.trans hl.1.symm) S.2.2.2.1 (S.2.2.2.2 _ q1253) (S.2.2.2.2 _ q1254) (S.2.2.2.2 _ q150) (S.2.2.2.2 _ q1255) (Nat.le_of_ble_eq_true rfl) (Nat.le_of_ble_eq_true rfl) (Nat.le_refl _) (Nat.le_refl _) dX16_times_14 ?_
    refine lv_topl (fun v_3 e_v_3 => ?_)
    replace h := h v_3 e_v_3
    obtain ⟨hz, h⟩ := h
    refine lv_ldiv hx hb dX16_times_17 hz ?_
    refine W.lcmp hx hb dX16_times_18 ?_
    refine lv_if_le (tgt := 26) hx hb dX16_times_19 (by decide) (fun c_4 => ?_) (fun c_4 => ?_)
    · replace h := h.1 ((lg_cmp_le _ _).mp c_4)
      refine lv_lload_n hx hb dX16_times_26 rfl (lv_at hl 0 rfl) ?_
      refine lv_lload_n hx hb dX16_times_27 rfl (lv_at hl 1 rfl) ?_
      refine lv_lmul hx hb dX16_times_28 ?_
      exact vx_ret (ve_l S hlocks hret hV hS h (Nat.le_refl _) (Nat.le_refl _) dX16_times_29)
    · replace h := h.2 (fun q => c_4 ((lg_cmp_le _ _).mpr q))
      refine vgs_TN (host := "SaidSo") S hG hS (hK.2.1 (_, _, _, _, _, "SaidSo") (List.mem_of_getElem? (i := 20) rfl)) dX16_times_22 (fun q_5 ce ge1 ge2 ge3 => ?_)
      replace h := h q_5
      exact vt_T hx hb htab hlocks hV hS ge1 ge2 ge3 h (Nat.le_refl _) (Nat.le_refl _) dX16_times_25
theorem cdX13_of : yX13_of.cls = RX13 ∧ yX13_of.cls ≠ "java/lang/invoke/MethodHandle" ∧ yX13_of.cls ≠ "java/lang/invoke/VarHandle" ∧ (parseMethodDescriptor yX13_of.desc).map (fun d => d.parameters.length) = some 1 := by decide +kernel
theorem cdX14_of : yX14_of.cls = RX14 ∧ yX14_of.cls ≠ "java/lang/invoke/MethodHandle" ∧ yX14_of.cls ≠ "java/lang/invoke/VarHandle" ∧ (parseMethodDescriptor yX14_of.desc).map (fun d => d.parameters.length) = some 1 := by decide +kernel
theorem cdX15_of : yX15_of.cls = RX15 ∧ yX15_of.cls ≠ "java/lang/invoke/MethodHandle" ∧ yX15_of.cls ≠ "java/lang/invoke/VarHandle" ∧ (parseMethodDescriptor yX15_of.desc).map (fun d => d.parameters.length) = some 1 := by decide +kernel
theorem cdX16_of : yX16_of.cls = RX16 ∧ yX16_of.cls ≠ "java/lang/invoke/MethodHandle" ∧ yX16_of.cls ≠ "java/lang/invoke/VarHandle" ∧ (parseMethodDescriptor yX16_of.desc).map (fun d => d.parameters.length) = some 1 := by decide +kernel
def PM (l : Launch) (D : va_G) (cA : Nat → ClassId) (A : Nat → Prop) (N a a1 : Nat) (V : VS) (Post : Int64 → VS → Prop) (PX : Nat → Nat → VS → Prop) : Prop := ∃ o, vO V [10, 11, 12, 13] a = some o ∧ (o.1 = 10 → vx_Met l yX13_of (ws_ yX13_of cX13_of 2 (some (.long))) (rP N) (vPc [.ref a, .ref a1] D cA A V) (va_Ql Post (vB D A) A) (vX D A PX) 0 0 A) ∧ (o.1 = 11 → vx_Met l yX14_of (ws_ yX14_of cX14_of 2 (some (.long))) (rP N) (vPc [.ref a, .ref a1] D cA A V) (va_Ql Post (vB D A) A) (vX D A PX) 0 0 A) ∧ (o.1 = 12 → vx_Met l yX15_of (ws_ yX15_of cX15_of 2 (some (.long))) (rP N) (vPc [.ref a, .ref a1] D cA A V) (va_Ql Post (vB D A) A) (vX D A PX) 0 0 A) ∧ (o.1 = 13 → vx_Met l yX16_of (ws_ yX16_of cX16_of 6 (some (.long))) (rP N) (vPc [.ref a, .ref a1] D cA A V) (va_Ql Post (vB D A) A) (vX D A PX) 0 0 A)
theorem vr_of {p : Program} {l : Launch} {e : Env} {R : Room} {s : State} {m : MethodId} {args : Array Value} {below : List Frame} {meth : Method} {c : Code} {H : Heap} {locs : List Loc} {cells slots : Nat} {cc : ByteArray} {pc nL : Nat} {ls : Array Slot} {rest : List Value} {D : va_G} {cA : Nat → ClassId} {A : Nat → Prop} {V : VS} {index N a a1 : Nat} {own : String} {Post : Int64 → VS → Prop} {PX : Nat → Nat → VS → Prop}
    (S : CallFix p m c cc nL s args lw_all own) (hK : GK D cA s) (hG : GH A s s.heap) (hA : ∀ q : Nat, s.heap.size ≤ q → A q) (hV : HV D A V H) (hS : va_S A s.heap H locs) (hl : Cond.methodLink own index ⟨"SaidSo$Part", "of", "([J)J"⟩ ∈ lw_all) (hM : PM l D cA A N a a1 V Post PX) (hR : 10 + N + 1 ≤ R.frames ∧ 360 + 60 * N ≤ R.locals)
    (hsz : ls.size = nL) (hroom : (rest.map fun v => v.category).sum ≤ 8) (hdg : decode cc pc = .ok (.invokevirtual index, 3)) (hc : cells ≤ R.cells ∧ slots ≤ R.slots) :
    vx_Run p l e R s m args below meth c H locs cells slots 0 0 (F0 m pc ls (.ref a1 :: .ref a :: rest)) rest (va_Ql Post (vB D A) A ([.ref a, .ref a1] : List Value).toArray) (vX D A PX) A := by
  obtain ⟨o, ho, h0, h1, h2, h3⟩ := hM
  have hm := (vO_e ho).2
  simp only [List.mem_cons, List.not_mem_nil, or_false] at hm
  rcases hm with hm | hm | hm | hm
  · exact vr_UX (As := [.ref a1]) (rest := rest) (x := ⟨"SaidSo$Part", "of", "([J)J"⟩) (owner := "SaidSo$Part") S hK hG hA hV hS ho hm (r := (RX13, TX13, 1)) rfl (h0 hm) (va_cwA 1 S.2.2.2.2 (lw_U hl q1230 q1261 q1238 q166 q1239) rfl rfl rfl (hK.2.2.2.2.2.2.1 _ (List.mem_of_getElem? (i := 0) rfl)) (by decide +kernel) ⟨hR.1, by show 8 + (2 + 11) + (300 + 60 * N) ≤ R.locals; omega⟩) rfl hsz hroom hdg hc
  · exact vr_UX (As := [.ref a1]) (rest := rest) (x := ⟨"SaidSo$Part", "of", "([J)J"⟩) (owner := "SaidSo$Part") S hK hG hA hV hS ho hm (r := (RX14, TX14, 1)) rfl (h1 hm) (va_cwA 1 S.2.2.2.2 (lw_U hl q1230 q1231 q1232 q167 q1233) rfl rfl rfl (hK.2.2.2.2.2.2.1 _ (List.mem_of_getElem? (i := 0) rfl)) (by decide +kernel) ⟨hR.1, by show 8 + (2 + 11) + (300 + 60 * N) ≤ R.locals; omega⟩) rfl hsz hroom hdg hc
  · exact vr_UX (As := [.ref a1]) (rest := rest) (x := ⟨"SaidSo$Part", "of", "([J)J"⟩) (owner := "SaidSo$Part") S hK hG hA hV hS ho hm (r := (RX15, TX15, 1)) rfl (h2 hm) (va_cwA 1 S.2.2.2.2 (lw_U hl q1230 q1234 q1235 q168 q1236) rfl rfl rfl (hK.2.2.2.2.2.2.1 _ (List.mem_of_getElem? (i := 0) rfl)) (by decide +kernel) ⟨hR.1, by show 8 + (2 + 11) + (300 + 60 * N) ≤ R.locals; omega⟩) rfl hsz hroom hdg hc
  · exact vr_UX (As := [.ref a1]) (rest := rest) (x := ⟨"SaidSo$Part", "of", "([J)J"⟩) (owner := "SaidSo$Part") S hK hG hA hV hS ho hm (r := (RX16, TX16, 3)) rfl (h3 hm) (va_cwA 1 S.2.2.2.2 (lw_U hl q1230 q1262 q1240 q169 q1241) rfl rfl rfl (hK.2.2.2.2.2.2.1 _ (List.mem_of_getElem? (i := 0) rfl)) (by decide +kernel) ⟨hR.1, by show 8 + (6 + 11) + (300 + 60 * N) ≤ R.locals; omega⟩) rfl hsz hroom hdg hc
def vX13_of (cA : Nat → ClassId) (rec : RTP) (a0 : Nat) (a1 : Nat) (V : VS) (Post : Int64 → VS → Prop) (PX : Nat → Nat → VS → Prop) : Prop := bO (gI V [10] a0 0) (fun g_1 => Post g_1.toInt64 V)
set_option maxHeartbeats 4000000 in
set_option maxRecDepth 100000 in
theorem mvX13_of (l : Launch) {D : va_G} {cA : Nat → ClassId} {A : Nat → Prop} (N : Nat) (rec : RTP) (R : ∀ (a b : Nat) (V : VS) (Post : Int64 → VS → Prop) (PX : Nat → Nat → VS → Prop), rec a b V Post PX → PM l D cA A N a b V Post PX) (a0 : Nat) (a1 : Nat) (V : VS) (Post : Int64 → VS → Prop) (PX : Nat → Nat → VS → Prop) (h : vX13_of cA rec a0 a1 V Post PX) : vx_Met l yX13_of (ws_ yX13_of cX13_of 2 (some (.long))) (rP (N + 1)) (vPc [.ref a0, .ref a1] D cA A V) (va_Ql Post (vB D A) A) (vX D A PX) 0 0 A := by
  refine vst (own := RX13) (by decide) rfl (Nat.le_of_ble_eq_true rfl) ?_
  intro p e s m args below meth c ls X hret hV hS hl
  obtain ⟨S, hK, hG, hA, hnm, hlocks, htab⟩ := X
  have hx := S.1
  have hb := S.2.1
  have hl : lv_has ls 2 [(0, .ref a0), (1, .ref a1)] := hl
  unfold vX13_of at h
  refine lv_aload_n hx hb dX13_of_0 rfl (lv_at hl 0 rfl) ?_
  obtain ⟨g_1, e_2, h⟩ := bO_e h
  refine vg_i S hK hV fX13_7 e_2 dX13_of_1 ?_
  refine lv_i2l hx hb dX13_of_4 rfl ?_
  exact vx_ret (ve_l S hlocks hret hV hS h (Nat.le_refl _) (Nat.le_refl _) dX13_of_5)
def vX14_of (cA : Nat → ClassId) (rec : RTP) (a0 : Nat) (a1 : Nat) (V : VS) (Post : Int64 → VS → Prop) (PX : Nat → Nat → VS → Prop) : Prop := bO (gI V [11] a0 0) (fun g_1 => bO (lJ V (cA 2) a1 g_1) (fun g_3 => Post g_3 V))
set_option maxHeartbeats 4000000 in
set_option maxRecDepth 100000 in
theorem mvX14_of (l : Launch) {D : va_G} {cA : Nat → ClassId} {A : Nat → Prop} (N : Nat) (rec : RTP) (R : ∀ (a b : Nat) (V : VS) (Post : Int64 → VS → Prop) (PX : Nat → Nat → VS → Prop), rec a b V Post PX → PM l D cA A N a b V Post PX) (a0 : Nat) (a1 : Nat) (V : VS) (Post : Int64 → VS → Prop) (PX : Nat → Nat → VS → Prop) (h : vX14_of cA rec a0 a1 V Post PX) : vx_Met l yX14_of (ws_ yX14_of cX14_of 2 (some (.long))) (rP (N + 1)) (vPc [.ref a0, .ref a1] D cA A V) (va_Ql Post (vB D A) A) (vX D A PX) 0 0 A := by
  refine vst (own := RX14) (by decide) rfl (Nat.le_of_ble_eq_true rfl) ?_
  intro p e s m args below meth c ls X hret hV hS hl
  obtain ⟨S, hK, hG, hA, hnm, hlocks, htab⟩ := X
  have hx := S.1
  have hb := S.2.1
  have hl : lv_has ls 2 [(0, .ref a0), (1, .ref a1)] := hl
  unfold vX14_of at h
  refine lv_aload_n hx hb dX14_of_0 rfl (lv_at hl 1 rfl) ?_
  refine lv_aload_n hx hb dX14_of_1 rfl (lv_at hl 0 rfl) ?_
  obtain ⟨g_1, e_2, h⟩ := bO_e h
  refine vg_i S hK hV fX14_7 e_2 dX14_of_2 ?_
  obtain ⟨g_3, e_4, h⟩ := bO_e h
  refine vl_l S hK hV e_4 dX14_of_5 ?_
  exact vx_ret (ve_l S hlocks hret hV hS h (Nat.le_refl _) (Nat.le_refl _) dX14_of_6)
def vX15_of (cA : Nat → ClassId) (rec : RTP) (a0 : Nat) (a1 : Nat) (V : VS) (Post : Int64 → VS → Prop) (PX : Nat → Nat → VS → Prop) : Prop := bO (gR V [12, 13] a0 0) (fun p_1 => bO p_1 (fun n_3 => rec n_3 a1 V (fun r_4 V_5 => (r_4 = (0 : Int64) → (Post (1 : Int64) V_5)) ∧ (¬ (r_4 = (0 : Int64)) → (Post (0 : Int64) V_5))) PX))
set_option maxHeartbeats 4000000 in
set_option maxRecDepth 100000 in
theorem mvX15_of (l : Launch) {D : va_G} {cA : Nat → ClassId} {A : Nat → Prop} (N : Nat) (rec : RTP) (R : ∀ (a b : Nat) (V : VS) (Post : Int64 → VS → Prop) (PX : Nat → Nat → VS → Prop), rec a b V Post PX → PM l D cA A N a b V Post PX) (a0 : Nat) (a1 : Nat) (V : VS) (Post : Int64 → VS → Prop) (PX : Nat → Nat → VS → Prop) (h : vX15_of cA rec a0 a1 V Post PX) : vx_Met l yX15_of (ws_ yX15_of cX15_of 2 (some (.long))) (rP (N + 1)) (vPc [.ref a0, .ref a1] D cA A V) (va_Ql Post (vB D A) A) (vX D A PX) 0 0 A := by
  refine vst (own := RX15) (by decide) rfl (Nat.le_of_ble_eq_true rfl) ?_
  intro p e s m args below meth c ls X hret hV hS hl
  obtain ⟨S, hK, hG, hA, hnm, hlocks, htab⟩ := X
  have hx := S.1
  have hb := S.2.1
  have hl : lv_has ls 2 [(0, .ref a0), (1, .ref a1)] := hl
  unfold vX15_of at h
  refine lv_aload_n hx hb dX15_of_0 rfl (lv_at hl 0 rfl) ?_
  obtain ⟨p_1, e_2, h⟩ := bO_e h
  refine vg_r S hK hV fX15_7 e_2 dX15_of_1 ?_
  refine lv_aload_n hx hb dX15_of_4 rfl (lv_at hl 1 rfl) ?_
  obtain ⟨n_3, z_n_3, h9⟩ := bO_e h
  clear h; subst z_n_3; have h := h9; clear h9
  refine vy_l (vr_of (rest := []) S hK hG hA hV hS q1237 (R _ _ _ _ _ h) ⟨le_rg2, le_rp⟩ hl.1 (Nat.le_of_ble_eq_true rfl) dX15_of_5 ⟨Nat.le_refl _, Nat.le_refl _⟩) hS (vo_X htab hlocks (Nat.le_refl _) (Nat.le_refl _)) (fun r_4 V_5 H locs h hV hS => ?_)
  refine lv_lconst (v := 0) hx hb dX15_of_8 rfl ?_
  refine W.lcmp hx hb dX15_of_9 ?_
  refine lv_if_ne (tgt := 17) hx hb dX15_of_10 (by decide) (fun c_6 => ?_) (fun c_6 => ?_)
  · replace h := h.2 (fun q => c_6 ((lg_cmp_eq _ _).mpr q))
    refine lv_lconst (v := 0) hx hb dX15_of_17 rfl ?_
    exact vx_ret (ve_l S hlocks hret hV hS h (Nat.le_refl _) (Nat.le_refl _) dX15_of_18)
  · replace h := h.1 ((lg_cmp_eq _ _).mp c_6)
    refine lv_lconst (v := 1) hx hb dX15_of_13 rfl ?_
    refine lv_goto (tgt := 18) hx hb dX15_of_14 (by decide) ?_
    exact vx_ret (ve_l S hlocks hret hV hS h (Nat.le_refl _) (Nat.le_refl _) dX15_of_18)
def vX16_of_c273 (cA : Nat → ClassId) (rec : RTP) (a0 : Nat) (a1 : Nat) (Post : Int64 → VS → Prop) (PX : Nat → Nat → VS → Prop) (t0 : Int32) (V : VS) : Prop := w16_is t0 (fun r_15 => Post r_15 V)
def vX16_of_c272 (cA : Nat → ClassId) (rec : RTP) (a0 : Nat) (a1 : Nat) (Post : Int64 → VS → Prop) (PX : Nat → Nat → VS → Prop) (V : VS) : Prop := vX16_of_c273 cA rec a0 a1 Post PX (0 : Int32) V
def vX16_of_c171 (cA : Nat → ClassId) (rec : RTP) (a0 : Nat) (a1 : Nat) (Post : Int64 → VS → Prop) (PX : Nat → Nat → VS → Prop) (t0 : Int32) (V : VS) : Prop := w16_is t0 (fun r_31 => Post r_31 V)
def vX16_of_c203 (cA : Nat → ClassId) (rec : RTP) (a0 : Nat) (a1 : Nat) (Post : Int64 → VS → Prop) (PX : Nat → Nat → VS → Prop) (t0 : Int32) (V : VS) : Prop := w16_is t0 (fun r_34 => Post r_34 V)
def vX16_of_c187 (cA : Nat → ClassId) (rec : RTP) (a0 : Nat) (a1 : Nat) (Post : Int64 → VS → Prop) (PX : Nat → Nat → VS → Prop) (t0 : Int32) (V : VS) : Prop := w16_is t0 (fun r_37 => Post r_37 V)
def vX16_of_c219 (cA : Nat → ClassId) (rec : RTP) (a0 : Nat) (a1 : Nat) (Post : Int64 → VS → Prop) (PX : Nat → Nat → VS → Prop) (t0 : Int32) (V : VS) : Prop := w16_is t0 (fun r_40 => Post r_40 V)
def vX16_of_c235 (cA : Nat → ClassId) (rec : RTP) (a0 : Nat) (a1 : Nat) (Post : Int64 → VS → Prop) (PX : Nat → Nat → VS → Prop) (t0 : Int32) (V : VS) : Prop := w16_is t0 (fun r_43 => Post r_43 V)
def vX16_of_c251 (cA : Nat → ClassId) (rec : RTP) (a0 : Nat) (a1 : Nat) (Post : Int64 → VS → Prop) (PX : Nat → Nat → VS → Prop) (t0 : Int32) (V : VS) : Prop := w16_is t0 (fun r_46 => Post r_46 V)
def vX16_of_c295 (cA : Nat → ClassId) (rec : RTP) (a0 : Nat) (a1 : Nat) (Post : Int64 → VS → Prop) (PX : Nat → Nat → VS → Prop) (t0 : Int32) (V : VS) : Prop := w16_is t0 (fun r_48 => Post r_48 V)
def vX16_of_c290 (cA : Nat → ClassId) (rec : RTP) (a0 : Nat) (a1 : Nat) (Post : Int64 → VS → Prop) (PX : Nat → Nat → VS → Prop) (V : VS) : Prop := vX16_of_c295 cA rec a0 a1 Post PX (1 : Int32) V
def vX16_of (cA : Nat → ClassId) (rec : RTP) (a0 : Nat) (a1 : Nat) (V : VS) (Post : Int64 → VS → Prop) (PX : Nat → Nat → VS → Prop) : Prop := bO (gR V [13] a0 0) (fun p_1 => bO p_1 (fun n_3 => rec n_3 a1 V (fun r_4 V_5 => bO (gR V_5 [13] a0 2) (fun p_6 => bO p_6 (fun n_8 => rec n_8 a1 V_5 (fun r_9 V_10 => bO (gI V_10 [13] a0 1) (fun g_11 => (g_11 = 15 → ((r_4 = (0 : Int64) → (vX16_of_c272 cA rec a0 a1 Post PX V_10)) ∧ (¬ (r_4 = (0 : Int64)) → ((r_9 = (0 : Int64) → (vX16_of_c272 cA rec a0 a1 Post PX V_10)) ∧ (¬ (r_9 = (0 : Int64)) → (vX16_of_c273 cA rec a0 a1 Post PX (1 : Int32) V_10)))))) ∧ (¬ g_11 = 15 → (g_11 = 42 → (vX16_times cA r_4 r_9 V_10 (fun r_18 V_19 => Post r_18 V_19) PX)) ∧ (¬ g_11 = 42 → (g_11 = 43 → (vX1_sure cA (r_4 + r_9) V_10 (fun r_21 V_22 => Post r_21 V_22) PX)) ∧ (¬ g_11 = 43 → (g_11 = 45 → (vX1_sure cA (r_4 - r_9) V_10 (fun r_24 V_25 => Post r_24 V_25) PX)) ∧ (¬ g_11 = 45 → (g_11 = 47 → ((r_9 = (0 : Int64) → (∀ q_28 : Nat, PX 1 q_28 V_10)) ∧ (¬ (r_9 = (0 : Int64)) → ((¬ r_9 = 0 ∧ Post (r_4 / r_9) V_10))))) ∧ (¬ g_11 = 47 → (g_11 = 60 → ((r_9 ≤ r_4 → (vX16_of_c171 cA rec a0 a1 Post PX (0 : Int32) V_10)) ∧ (¬ (r_9 ≤ r_4) → (vX16_of_c171 cA rec a0 a1 Post PX (1 : Int32) V_10)))) ∧ (¬ g_11 = 60 → (g_11 = 61 → ((r_4 = r_9 → (vX16_of_c203 cA rec a0 a1 Post PX (1 : Int32) V_10)) ∧ (¬ (r_4 = r_9) → (vX16_of_c203 cA rec a0 a1 Post PX (0 : Int32) V_10)))) ∧ (¬ g_11 = 61 → (g_11 = 62 → ((r_4 ≤ r_9 → (vX16_of_c187 cA rec a0 a1 Post PX (0 : Int32) V_10)) ∧ (¬ (r_4 ≤ r_9) → (vX16_of_c187 cA rec a0 a1 Post PX (1 : Int32) V_10)))) ∧ (¬ g_11 = 62 → (g_11 = 256 → ((r_9 < r_4 → (vX16_of_c219 cA rec a0 a1 Post PX (0 : Int32) V_10)) ∧ (¬ (r_9 < r_4) → (vX16_of_c219 cA rec a0 a1 Post PX (1 : Int32) V_10)))) ∧ (¬ g_11 = 256 → (g_11 = 257 → ((r_4 < r_9 → (vX16_of_c235 cA rec a0 a1 Post PX (0 : Int32) V_10)) ∧ (¬ (r_4 < r_9) → (vX16_of_c235 cA rec a0 a1 Post PX (1 : Int32) V_10)))) ∧ (¬ g_11 = 257 → (g_11 = 258 → ((r_4 = r_9 → (vX16_of_c251 cA rec a0 a1 Post PX (0 : Int32) V_10)) ∧ (¬ (r_4 = r_9) → (vX16_of_c251 cA rec a0 a1 Post PX (1 : Int32) V_10)))) ∧ (¬ g_11 = 258 → (r_4 = (0 : Int64) → ((r_9 = (0 : Int64) → (vX16_of_c295 cA rec a0 a1 Post PX (0 : Int32) V_10)) ∧ (¬ (r_9 = (0 : Int64)) → (vX16_of_c290 cA rec a0 a1 Post PX V_10)))) ∧ (¬ (r_4 = (0 : Int64)) → (vX16_of_c290 cA rec a0 a1 Post PX V_10))))))))))))))) PX))) PX))
set_option maxHeartbeats 4000000 in
set_option maxRecDepth 100000 in
theorem mvX16_of (l : Launch) {D : va_G} {cA : Nat → ClassId} {A : Nat → Prop} (N : Nat) (rec : RTP) (R : ∀ (a b : Nat) (V : VS) (Post : Int64 → VS → Prop) (PX : Nat → Nat → VS → Prop), rec a b V Post PX → PM l D cA A N a b V Post PX) (a0 : Nat) (a1 : Nat) (V : VS) (Post : Int64 → VS → Prop) (PX : Nat → Nat → VS → Prop) (h : vX16_of cA rec a0 a1 V Post PX) : vx_Met l yX16_of (ws_ yX16_of cX16_of 6 (some (.long))) (rP (N + 1)) (vPc [.ref a0, .ref a1] D cA A V) (va_Ql Post (vB D A) A) (vX D A PX) 0 0 A := by
  refine vst (own := RX16) (by decide) rfl (Nat.le_of_ble_eq_true rfl) ?_
  intro p e s m args below meth c ls X hret hV hS hl
  obtain ⟨S, hK, hG, hA, hnm, hlocks, htab⟩ := X
  have hx := S.1
  have hb := S.2.1
  have hl : lv_has ls 6 [(0, .ref a0), (1, .ref a1)] := hl
  have C273 : ∀ (t0 : Int32) (V : VS) (H : Heap) (locs : List Loc) (ls : Array Slot), HV D A V H → va_S A s.heap H locs → lv_has ls 6 [(0, .ref a0), (1, .ref a1)] → vX16_of_c273 cA rec a0 a1 Post PX t0 V → W p l e (rP (N + 1)) s m args below meth c H locs 0 0 (vx_MQ below (va_Ql Post (vB D A) A) (vX D A PX) args s 0 0 A) (F0 m 273 ls [.int t0]) := by
    intro t0 V H locs ls hV hS hl h
    unfold vX16_of_c273 at h
    refine sc_l S (As := [.int t0]) (rest := []) (mt16_is l t0 _ h) (va_cwS 1 S.2.2.2.2 (lw_S q1258 q1259 q169 q1260) rfl rfl rfl cdX16_is ⟨le_rf (Nat.le_of_ble_eq_true rfl), le_rl (Nat.le_of_ble_eq_true rfl)⟩) rfl rfl hl.1 (Nat.le_of_ble_eq_true rfl) dX16_of_273 ⟨Nat.le_refl _, Nat.le_refl _⟩ (fun r_15 h => ?_)
    exact vx_ret (ve_l S hlocks hret hV hS h (Nat.le_refl _) (Nat.le_refl _) dX16_of_276)
  have C272 : ∀ (V : VS) (H : Heap) (locs : List Loc) (ls : Array Slot), HV D A V H → va_S A s.heap H locs → lv_has ls 6 [(0, .ref a0), (1, .ref a1)] → vX16_of_c272 cA rec a0 a1 Post PX V → W p l e (rP (N + 1)) s m args below meth c H locs 0 0 (vx_MQ below (va_Ql Post (vB D A) A) (vX D A PX) args s 0 0 A) (F0 m 272 ls []) := by
    intro V H locs ls hV hS hl h
    unfold vX16_of_c272 at h
    refine lv_iconst hx hb dX16_of_272 kc_0 ?_
    exact C273 _ _ _ _ _ hV hS (lv_sub hl [0, 1] rfl) h
  have C171 : ∀ (t0 : Int32) (V : VS) (H : Heap) (locs : List Loc) (ls : Array Slot), HV D A V H → va_S A s.heap H locs → lv_has ls 6 [(0, .ref a0), (1, .ref a1)] → vX16_of_c171 cA rec a0 a1 Post PX t0 V → W p l e (rP (N + 1)) s m args below meth c H locs 0 0 (vx_MQ below (va_Ql Post (vB D A) A) (vX D A PX) args s 0 0 A) (F0 m 171 ls [.int t0]) := by
    intro t0 V H locs ls hV hS hl h
    unfold vX16_of_c171 at h
    refine sc_l S (As := [.int t0]) (rest := []) (mt16_is l t0 _ h) (va_cwS 1 S.2.2.2.2 (lw_S q1258 q1259 q169 q1260) rfl rfl rfl cdX16_is ⟨le_rf (Nat.le_of_ble_eq_true rfl), le_rl (Nat.le_of_ble_eq_true rfl)⟩) rfl rfl hl.1 (Nat.le_of_ble_eq_true rfl) dX16_of_171 ⟨Nat.le_refl _, Nat.le_refl _⟩ (fun r_31 h => ?_)
    exact vx_ret (ve_l S hlocks hret hV hS h (Nat.le_refl _) (Nat.le_refl _) dX16_of_174)
  have C203 : ∀ (t0 : Int32) (V : VS) (H : Heap) (locs : List Loc) (ls : Array Slot), HV D A V H → va_S A s.heap H locs → lv_has ls 6 [(0, .ref a0), (1, .ref a1)] → vX16_of_c203 cA rec a0 a1 Post PX t0 V → W p l e (rP (N + 1)) s m args below meth c H locs 0 0 (vx_MQ below (va_Ql Post (vB D A) A) (vX D A PX) args s 0 0 A) (F0 m 203 ls [.int t0]) := by
    intro t0 V H locs ls hV hS hl h
    unfold vX16_of_c203 at h
    refine sc_l S (As := [.int t0]) (rest := []) (mt16_is l t0 _ h) (va_cwS 1 S.2.2.2.2 (lw_S q1258 q1259 q169 q1260) rfl rfl rfl cdX16_is ⟨le_rf (Nat.le_of_ble_eq_true rfl), le_rl (Nat.le_of_ble_eq_true rfl)⟩) rfl rfl hl.1 (Nat.le_of_ble_eq_true rfl) dX16_of_203 ⟨Nat.le_refl _, Nat.le_refl _⟩ (fun r_34 h => ?_)
    exact vx_ret (ve_l S hlocks hret hV hS h (Nat.le_refl _) (Nat.le_refl _) dX16_of_206)
  have C187 : ∀ (t0 : Int32) (V : VS) (H : Heap) (locs : List Loc) (ls : Array Slot), HV D A V H → va_S A s.heap H locs → lv_has ls 6 [(0, .ref a0), (1, .ref a1)] → vX16_of_c187 cA rec a0 a1 Post PX t0 V → W p l e (rP (N + 1)) s m args below meth c H locs 0 0 (vx_MQ below (va_Ql Post (vB D A) A) (vX D A PX) args s 0 0 A) (F0 m 187 ls [.int t0]) := by
    intro t0 V H locs ls hV hS hl h
    unfold vX16_of_c187 at h
    refine sc_l S (As := [.int t0]) (rest := []) (mt16_is l t0 _ h) (va_cwS 1 S.2.2.2.2 (lw_S q1258 q1259 q169 q1260) rfl rfl rfl cdX16_is ⟨le_rf (Nat.le_of_ble_eq_true rfl), le_rl (Nat.le_of_ble_eq_true rfl)⟩) rfl rfl hl.1 (Nat.le_of_ble_eq_true rfl) dX16_of_187 ⟨Nat.le_refl _, Nat.le_refl _⟩ (fun r_37 h => ?_)
    exact vx_ret (ve_l S hlocks hret hV hS h (Nat.le_refl _) (Nat.le_refl _) dX16_of_190)
  have C219 : ∀ (t0 : Int32) (V : VS) (H : Heap) (locs : List Loc) (ls : Array Slot), HV D A V H → va_S A s.heap H locs → lv_has ls 6 [(0, .ref a0), (1, .ref a1)] → vX16_of_c219 cA rec a0 a1 Post PX t0 V → W p l e (rP (N + 1)) s m args below meth c H locs 0 0 (vx_MQ below (va_Ql Post (vB D A) A) (vX D A PX) args s 0 0 A) (F0 m 219 ls [.int t0]) := by
    intro t0 V H locs ls hV hS hl h
    unfold vX16_of_c219 at h
    refine sc_l S (As := [.int t0]) (rest := []) (mt16_is l t0 _ h) (va_cwS 1 S.2.2.2.2 (lw_S q1258 q1259 q169 q1260) rfl rfl rfl cdX16_is ⟨le_rf (Nat.le_of_ble_eq_true rfl), le_rl (Nat.le_of_ble_eq_true rfl)⟩) rfl rfl hl.1 (Nat.le_of_ble_eq_true rfl) dX16_of_219 ⟨Nat.le_refl _, Nat.le_refl _⟩ (fun r_40 h => ?_)
    exact vx_ret (ve_l S hlocks hret hV hS h (Nat.le_refl _) (Nat.le_refl _) dX16_of_222)
  have C235 : ∀ (t0 : Int32) (V : VS) (H : Heap) (locs : List Loc) (ls : Array Slot), HV D A V H → va_S A s.heap H locs → lv_has ls 6 [(0, .ref a0), (1, .ref a1)] → vX16_of_c235 cA rec a0 a1 Post PX t0 V → W p l e (rP (N + 1)) s m args below meth c H locs 0 0 (vx_MQ below (va_Ql Post (vB D A) A) (vX D A PX) args s 0 0 A) (F0 m 235 ls [.int t0]) := by
    intro t0 V H locs ls hV hS hl h
    unfold vX16_of_c235 at h
    refine sc_l S (As := [.int t0]) (rest := []) (mt16_is l t0 _ h) (va_cwS 1 S.2.2.2.2 (lw_S q1258 q1259 q169 q1260) rfl rfl rfl cdX16_is ⟨le_rf (Nat.le_of_ble_eq_true rfl), le_rl (Nat.le_of_ble_eq_true rfl)⟩) rfl rfl hl.1 (Nat.le_of_ble_eq_true rfl) dX16_of_235 ⟨Nat.le_refl _, Nat.le_refl _⟩ (fun r_43 h => ?_)
    exact vx_ret (ve_l S hlocks hret hV hS h (Nat.le_refl _) (Nat.le_refl _) dX16_of_238)
  have C251 : ∀ (t0 : Int32) (V : VS) (H : Heap) (locs : List Loc) (ls : Array Slot), HV D A V H → va_S A s.heap H locs → lv_has ls 6 [(0, .ref a0), (1, .ref a1)] → vX16_of_c251 cA rec a0 a1 Post PX t0 V → W p l e (rP (N + 1)) s m args below meth c H locs 0 0 (vx_MQ below (va_Ql Post (vB D A) A) (vX D A PX) args s 0 0 A) (F0 m 251 ls [.int t0]) := by
    intro t0 V H locs ls hV hS hl h
    unfold vX16_of_c251 at h
    refine sc_l S (As := [.int t0]) (rest := []) (mt16_is l t0 _ h) (va_cwS 1 S.2.2.2.2 (lw_S q1258 q1259 q169 q1260) rfl rfl rfl cdX16_is ⟨le_rf (Nat.le_of_ble_eq_true rfl), le_rl (Nat.le_of_ble_eq_true rfl)⟩) rfl rfl hl.1 (Nat.le_of_ble_eq_true rfl) dX16_of_251 ⟨Nat.le_refl _, Nat.le_refl _⟩ (fun r_46 h => ?_)
    exact vx_ret (ve_l S hlocks hret hV hS h (Nat.le_refl _) (Nat.le_refl _) dX16_of_254)
  have C295 : ∀ (t0 : Int32) (V : VS) (H : Heap) (locs : List Loc) (ls : Array Slot), HV D A V H → va_S A s.heap H locs → lv_has ls 6 [(0, .ref a0), (1, .ref a1)] → vX16_of_c295 cA rec a0 a1 Post PX t0 V → W p l e (rP (N + 1)) s m args below meth c H locs 0 0 (vx_MQ below (va_Ql Post (vB D A) A) (vX D A PX) args s 0 0 A) (F0 m 295 ls [.int t0]) := by
    intro t0 V H locs ls hV hS hl h
    unfold vX16_of_c295 at h
    refine sc_l S (As := [.int t0]) (rest := []) (mt16_is l t0 _ h) (va_cwS 1 S.2.2.2.2 (lw_S q1258 q1259 q169 q1260) rfl rfl rfl cdX16_is ⟨le_rf (Nat.le_of_ble_eq_true rfl), le_rl (Nat.le_of_ble_eq_true rfl)⟩) rfl rfl hl.1 (Nat.le_of_ble_eq_true rfl) dX16_of_295 ⟨Nat.le_refl _, Nat.le_refl _⟩ (fun r_48 h => ?_)
    exact vx_ret (ve_l S hlocks hret hV hS h (Nat.le_refl _) (Nat.le_refl _) dX16_of_298)
  have C290 : ∀ (V : VS) (H : Heap) (locs : List Loc) (ls : Array Slot), HV D A V H → va_S A s.heap H locs → lv_has ls 6 [(0, .ref a0), (1, .ref a1)] → vX16_of_c290 cA rec a0 a1 Post PX V → W p l e (rP (N + 1)) s m args below meth c H locs 0 0 (vx_MQ below (va_Ql Post (vB D A) A) (vX D A PX) args s 0 0 A) (F0 m 290 ls []) := by
    intro V H locs ls hV hS hl h
    unfold vX16_of_c290 at h
    refine lv_iconst hx hb dX16_of_290 kc_1 ?_
    refine lv_goto (tgt := 295) hx hb dX16_of_291 (by decide) ?_
    exact C295 _ _ _ _ _ hV hS (lv_sub hl [0, 1] rfl) h
  unfold vX16_of at h
  refine lv_aload_n hx hb dX16_of_0 rfl (lv_at hl 0 rfl) ?_
  obtain ⟨p_1, e_2, h⟩ := bO_e h
  refine vg_r S hK hV fX16_19 e_2 dX16_of_1 ?_
  refine lv_aload_n hx hb dX16_of_4 rfl (lv_at hl 1 rfl) ?_
  obtain ⟨n_3, z_n_3, h9⟩ := bO_e h
  clear h; subst z_n_3; have h := h9; clear h9
  refine vy_l (vr_of (rest := []) S hK hG hA hV hS q1242 (R _ _ _ _ _ h) ⟨le_rg2, le_rp⟩ hl.1 (Nat.le_of_ble_eq_true rfl) dX16_of_5 ⟨Nat.le_refl _, Nat.le_refl _⟩) hS (vo_X htab hlocks (Nat.le_refl _) (Nat.le_refl _)) (fun r_4 V_5 H locs h hV hS => ?_)
  refine lv_lstore_n (lv' := [(2, .long r_4), (0, .ref a0), (1, .ref a1)]) hx hb dX16_of_8 rfl hl (by decide) rfl (fun ls hl => ?_)
  refine lv_aload_n hx hb dX16_of_9 rfl (lv_at hl 1 rfl) ?_
  obtain ⟨p_6, e_7, h⟩ := bO_e h
  refine vg_r S hK hV fX16_15 e_7 dX16_of_10 ?_
  refine lv_aload_n hx hb dX16_of_13 rfl (lv_at hl 2 rfl) ?_
  obtain ⟨n_8, z_n_8, h9⟩ := bO_e h
  clear h; subst z_n_8; have h := h9; clear h9
  refine vy_l (vr_of (rest := []) S hK hG hA hV hS q1242 (R _ _ _ _ _ h) ⟨le_rg2, le_rp⟩ hl.1 (Nat.le_of_ble_eq_true rfl) dX16_of_14 ⟨Nat.le_refl _, Nat.le_refl _⟩) hS (vo_X htab hlocks (Nat.le_refl _) (Nat.le_refl _)) (fun r_9 V_10 H locs h hV hS => ?_)
  refine lv_lstore (lv' := [(4, .long r_9), (2, .long r_4), (0, .ref a0), (1, .ref a1)]) hx hb dX16_of_17 hl (by decide) rfl (fun ls hl => ?_)
  refine lv_aload_n hx hb dX16_of_19 rfl (lv_at hl 2 rfl) ?_
  obtain ⟨g_11, e_12, h⟩ := bO_e h
  refine vg_i S hK hV fX16_9 e_12 dX16_of_20 ?_
  by_cases c_13 : g_11 = 15
  · replace h := h.1 c_13
    refine lv_lookup (tgt := 255) hx hb dX16_of_23 (by decide) (by rw [c_13] <;> rfl) (by decide) ?_
    refine lv_lload_n hx hb dX16_of_255 rfl (lv_at hl 1 rfl) ?_
    refine lv_lconst (v := 0) hx hb dX16_of_256 rfl ?_
    refine W.lcmp hx hb dX16_of_257 ?_
    refine lv_if_eq (tgt := 272) hx hb dX16_of_258 (by decide) (fun c_14 => ?_) (fun c_14 => ?_)
    · replace h := h.1 ((lg_cmp_eq _ _).mp c_14)
      exact C272 _ _ _ _ hV hS (lv_sub hl [2, 3] rfl) h
    · replace h := h.2 (fun q => c_14 ((lg_cmp_eq _ _).mpr q))
      refine lv_lload hx hb dX16_of_261 (lv_at hl 0 rfl) ?_
      refine lv_lconst (v := 0) hx hb dX16_of_263 rfl ?_
      refine W.lcmp hx hb dX16_of_264 ?_
      refine lv_if_eq (tgt := 272) hx hb dX16_of_265 (by decide) (fun c_16 => ?_) (fun c_16 => ?_)
      · replace h := h.1 ((lg_cmp_eq _ _).mp c_16)
        exact C272 _ _ _ _ hV hS (lv_sub hl [2, 3] rfl) h
      · replace h := h.2 (fun q => c_16 ((lg_cmp_eq _ _).mpr q))
        refine lv_iconst hx hb dX16_of_268 kc_1 ?_
        refine lv_goto (tgt := 273) hx hb dX16_of_269 (by decide) ?_
        exact C273 _ _ _ _ _ hV hS (lv_sub hl [2, 3] rfl) h
  · replace h := h.2 c_13
    by_cases c_17 : g_11 = 42
    · replace h := h.1 c_17
      refine lv_lookup (tgt := 136) hx hb dX16_of_23 (by decide) (by rw [c_17] <;> rfl) (by decide) ?_
      refine lv_lload_n hx hb dX16_of_136 rfl (lv_at hl 1 rfl) ?_
      refine lv_lload hx hb dX16_of_137 (lv_at hl 0 rfl) ?_
      refine vy_l (vr_SX (As := [.long r_4, .long r_9]) (rest := []) S hK hG hA hV hS (mvX16_times l r_4 r_9 V_10 _ _ h) (va_cwS 2 S.2.2.2.2 (lw_S q1250 q1251 q169 q1252) rfl rfl rfl cdX16_times ⟨le_rf (Nat.le_of_ble_eq_true rfl), le_rl (Nat.le_of_ble_eq_true rfl)⟩) rfl hl.1 (Nat.le_of_ble_eq_true rfl) dX16_of_139 ⟨Nat.le_refl _, Nat.le_refl _⟩) hS (vo_X htab hlocks (Nat.le_refl _) (Nat.le_refl _)) (fun r_18 V_19 H locs h hV hS => ?_)
      exact vx_ret (ve_l S hlocks hret hV hS h (Nat.le_refl _) (Nat.le_refl _) dX16_of_142)
    · replace h := h.2 c_17
      by_cases c_20 : g_11 = 43
      · replace h := h.1 c_20
        refine lv_lookup (tgt := 120) hx hb dX16_of_23 (by decide) (by rw [c_20] <;> rfl) (by decide) ?_
        refine lv_lload_n hx hb dX16_of_120 rfl (lv_at hl 1 rfl) ?_
        refine lv_lload hx hb dX16_of_121 (lv_at hl 0 rfl) ?_
        refine lv_ladd hx hb dX16_of_123 ?_
        refine vy_l (vr_SNX (As := [.long (r_4 + r_9)]) (rest := []) S hK hG hA hV hS (mvX1_sure l (r_4 + r_9) V_10 _ _ h) ⟨va_cnB 1 S.2.2.2.2 (lw_meth q1245) rfl rfl rfl (hK.2.2.1 (_, _, _, "SaidSo") (List.mem_of_getElem? (i := 5) rfl)) (S.2.2.2.2 _ q139) cdX1_sure ⟨le_rf (Nat.le_of_ble_eq_true rfl), le_rl (Nat.le_of_ble_eq_true rfl)⟩, S.2.2.2.2 _ q1244, trivial⟩ rfl hl.1 (Nat.le_of_ble_eq_true rfl) dX16_of_124 ⟨Nat.le_refl _, Nat.le_refl _⟩) hS (vo_X htab hlocks (Nat.le_refl _) (Nat.le_refl _)) (fun r_21 V_22 H locs h hV hS => ?_)
        exact vx_ret (ve_l S hlocks hret hV hS h (Nat.le_refl _) (Nat.le_refl _) dX16_of_127)
      · replace h := h.2 c_20
        by_cases c_23 : g_11 = 45
        · replace h := h.1 c_23
          refine lv_lookup (tgt := 128) hx hb dX16_of_23 (by decide) (by rw [c_23] <;> rfl) (by decide) ?_
          refine lv_lload_n hx hb dX16_of_128 rfl (lv_at hl 1 rfl) ?_
          refine lv_lload hx hb dX16_of_129 (lv_at hl 0 rfl) ?_
          refine lv_lsub hx hb dX16_of_131 ?_
          refine vy_l (vr_SNX (As := [.long (r_4 - r_9)]) (rest := []) S hK hG hA hV hS (mvX1_sure l (r_4 - r_9) V_10 _ _ h) ⟨va_cnB 1 S.2.2.2.2 (lw_meth q1245) rfl rfl rfl (hK.2.2.1 (_, _, _, "SaidSo") (List.mem_of_getElem? (i := 5) rfl)) (S.2.2.2.2 _ q139) cdX1_sure ⟨le_rf (Nat.le_of_ble_eq_true rfl), le_rl (Nat.le_of_ble_eq_true rfl)⟩, S.2.2.2.2 _ q1244, trivial⟩ rfl hl.1 (Nat.le_of_ble_eq_true rfl) dX16_of_132 ⟨Nat.le_refl _, Nat.le_refl _⟩) hS (vo_X htab hlocks (Nat.le_refl _) (Nat.le_refl _)) (fun r_24 V_25 H locs h hV hS => ?_)
          exact vx_ret (ve_l S hlocks hret hV hS h (Nat.le_refl _) (Nat.le_refl _) dX16_of_135)
        · replace h := h.2 c_23
          by_cases c_26 : g_11 = 47
          · replace h := h.1 c_26
            refine lv_lookup (tgt := 143) hx hb dX16_of_23 (by decide) (by rw [c_26] <;> rfl) (by decide) ?_
            refine lv_lload hx hb dX16_of_143 (lv_at hl 0 rfl) ?_
            refine lv_lconst (v := 0) hx hb dX16_of_145 rfl ?_
            refine W.lcmp hx hb dX16_of_146 ?_
            refine lv_if_ne (tgt := 154) hx hb dX16_of_147 (by decide) (fun c_27 => ?_) (fun c_27 => ?_)
            · replace h := h.2 (fun q => c_27 ((lg_cmp_eq _ _).mpr q))
              refine lv_lload_n hx hb dX16_of_154 rfl (lv_at hl 1 rfl) ?_
              refine lv_lload hx hb dX16_of_155 (lv_at hl 0 rfl) ?_
              obtain ⟨hz, h⟩ := h
              refine lv_ldiv hx hb dX16_of_157 hz ?_
              exact vx_ret (ve_l S hlocks hret hV hS h (Nat.le_refl _) (Nat.le_refl _) dX16_of_158)
            · replace h := h.1 ((lg_cmp_eq _ _).mp c_27)
              refine vgs_TN (host := "SaidSo") S hG hS (hK.2.1 (_, _, _, _, _, "SaidSo") (List.mem_of_getElem? (i := 20) rfl)) dX16_of_150 (fun q_28 ce ge1 ge2 ge3 => ?_)
              replace h := h q_28
              exact vt_T hx hb htab hlocks hV hS ge1 ge2 ge3 h (Nat.le_refl _) (Nat.le_refl _) dX16_of_153
          · replace h := h.2 c_26
            by_cases c_29 : g_11 = 60
            · replace h := h.1 c_29
              refine lv_lookup (tgt := 159) hx hb dX16_of_23 (by decide) (by rw [c_29] <;> rfl) (by decide) ?_
              refine lv_lload_n hx hb dX16_of_159 rfl (lv_at hl 1 rfl) ?_
              refine lv_lload hx hb dX16_of_160 (lv_at hl 0 rfl) ?_
              refine W.lcmp hx hb dX16_of_162 ?_
              refine lv_if_ge (tgt := 170) hx hb dX16_of_163 (by decide) (fun c_30 => ?_) (fun c_30 => ?_)
              · replace h := h.1 ((lg_cmp_ge _ _).mp c_30)
                refine lv_iconst hx hb dX16_of_170 kc_0 ?_
                exact C171 _ _ _ _ _ hV hS (lv_sub hl [2, 3] rfl) h
              · replace h := h.2 (fun q => c_30 ((lg_cmp_ge _ _).mpr q))
                refine lv_iconst hx hb dX16_of_166 kc_1 ?_
                refine lv_goto (tgt := 171) hx hb dX16_of_167 (by decide) ?_
                exact C171 _ _ _ _ _ hV hS (lv_sub hl [2, 3] rfl) h
            · replace h := h.2 c_29
              by_cases c_32 : g_11 = 61
              · replace h := h.1 c_32
                refine lv_lookup (tgt := 191) hx hb dX16_of_23 (by decide) (by rw [c_32] <;> rfl) (by decide) ?_
                refine lv_lload_n hx hb dX16_of_191 rfl (lv_at hl 1 rfl) ?_
                refine lv_lload hx hb dX16_of_192 (lv_at hl 0 rfl) ?_
                refine W.lcmp hx hb dX16_of_194 ?_
                refine lv_if_ne (tgt := 202) hx hb dX16_of_195 (by decide) (fun c_33 => ?_) (fun c_33 => ?_)
                · replace h := h.2 (fun q => c_33 ((lg_cmp_eq _ _).mpr q))
                  refine lv_iconst hx hb dX16_of_202 kc_0 ?_
                  exact C203 _ _ _ _ _ hV hS (lv_sub hl [2, 3] rfl) h
                · replace h := h.1 ((lg_cmp_eq _ _).mp c_33)
                  refine lv_iconst hx hb dX16_of_198 kc_1 ?_
                  refine lv_goto (tgt := 203) hx hb dX16_of_199 (by decide) ?_
                  exact C203 _ _ _ _ _ hV hS (lv_sub hl [2, 3] rfl) h
              · replace h := h.2 c_32
                by_cases c_35 : g_11 = 62
                · replace h := h.1 c_35
                  refine lv_lookup (tgt := 175) hx hb dX16_of_23 (by decide) (by rw [c_35] <;> rfl) (by decide) ?_
                  refine lv_lload_n hx hb dX16_of_175 rfl (lv_at hl 1 rfl) ?_
                  refine lv_lload hx hb dX16_of_176 (lv_at hl 0 rfl) ?_
                  refine W.lcmp hx hb dX16_of_178 ?_
                  refine lv_if_le (tgt := 186) hx hb dX16_of_179 (by decide) (fun c_36 => ?_) (fun c_36 => ?_)
                  · replace h := h.1 ((lg_cmp_le _ _).mp c_36)
                    refine lv_iconst hx hb dX16_of_186 kc_0 ?_
                    exact C187 _ _ _ _ _ hV hS (lv_sub hl [2, 3] rfl) h
                  · replace h := h.2 (fun q => c_36 ((lg_cmp_le _ _).mpr q))
                    refine lv_iconst hx hb dX16_of_182 kc_1 ?_
                    refine lv_goto (tgt := 187) hx hb dX16_of_183 (by decide) ?_
                    exact C187 _ _ _ _ _ hV hS (lv_sub hl [2, 3] rfl) h
                · replace h := h.2 c_35
                  by_cases c_38 : g_11 = 256
                  · replace h := h.1 c_38
                    refine lv_lookup (tgt := 207) hx hb dX16_of_23 (by decide) (by rw [c_38] <;> rfl) (by decide) ?_
                    refine lv_lload_n hx hb dX16_of_207 rfl (lv_at hl 1 rfl) ?_
                    refine lv_lload hx hb dX16_of_208 (lv_at hl 0 rfl) ?_
                    refine W.lcmp hx hb dX16_of_210 ?_
                    refine lv_if_gt (tgt := 218) hx hb dX16_of_211 (by decide) (fun c_39 => ?_) (fun c_39 => ?_)
                    · replace h := h.1 ((lg_cmp_gt _ _).mp c_39)
                      refine lv_iconst hx hb dX16_of_218 kc_0 ?_
                      exact C219 _ _ _ _ _ hV hS (lv_sub hl [2, 3] rfl) h
                    · replace h := h.2 (fun q => c_39 ((lg_cmp_gt _ _).mpr q))
                      refine lv_iconst hx hb dX16_of_214 kc_1 ?_
                      refine lv_goto (tgt := 219) hx hb dX16_of_215 (by decide) ?_
                      exact C219 _ _ _ _ _ hV hS (lv_sub hl [2, 3] rfl) h
                  · replace h := h.2 c_38
                    by_cases c_41 : g_11 = 257
                    · replace h := h.1 c_41
                      refine lv_lookup (tgt := 223) hx hb dX16_of_23 (by decide) (by rw [c_41] <;> rfl) (by decide) ?_
                      refine lv_lload_n hx hb dX16_of_223 rfl (lv_at hl 1 rfl) ?_
                      refine lv_lload hx hb dX16_of_224 (lv_at hl 0 rfl) ?_
                      refine W.lcmp hx hb dX16_of_226 ?_
                      refine lv_if_lt (tgt := 234) hx hb dX16_of_227 (by decide) (fun c_42 => ?_) (fun c_42 => ?_)
                      · replace h := h.1 ((lg_cmp_lt _ _).mp c_42)
                        refine lv_iconst hx hb dX16_of_234 kc_0 ?_
                        exact C235 _ _ _ _ _ hV hS (lv_sub hl [2, 3] rfl) h
                      · replace h := h.2 (fun q => c_42 ((lg_cmp_lt _ _).mpr q))
                        refine lv_iconst hx hb dX16_of_230 kc_1 ?_
                        refine lv_goto (tgt := 235) hx hb dX16_of_231 (by decide) ?_
                        exact C235 _ _ _ _ _ hV hS (lv_sub hl [2, 3] rfl) h
                    · replace h := h.2 c_41
                      by_cases c_44 : g_11 = 258
                      · replace h := h.1 c_44
                        refine lv_lookup (tgt := 239) hx hb dX16_of_23 (by decide) (by rw [c_44] <;> rfl) (by decide) ?_
                        refine lv_lload_n hx hb dX16_of_239 rfl (lv_at hl 1 rfl) ?_
                        refine lv_lload hx hb dX16_of_240 (lv_at hl 0 rfl) ?_
                        refine W.lcmp hx hb dX16_of_242 ?_
                        refine lv_if_eq (tgt := 250) hx hb dX16_of_243 (by decide) (fun c_45 => ?_) (fun c_45 => ?_)
                        · replace h := h.1 ((lg_cmp_eq _ _).mp c_45)
                          refine lv_iconst hx hb dX16_of_250 kc_0 ?_
                          exact C251 _ _ _ _ _ hV hS (lv_sub hl [2, 3] rfl) h
                        · replace h := h.2 (fun q => c_45 ((lg_cmp_eq _ _).mpr q))
                          refine lv_iconst hx hb dX16_of_246 kc_1 ?_
                          refine lv_goto (tgt := 251) hx hb dX16_of_247 (by decide) ?_
                          exact C251 _ _ _ _ _ hV hS (lv_sub hl [2, 3] rfl) h
                      · replace h := h.2 c_44
                        refine lv_lookup (tgt := 277) (off := 254) hx hb dX16_of_23 (by decide) (by have z0 := sw_n (n := 15) c_13 rfl; have z1 := sw_n (n := 42) c_17 rfl; have z2 := sw_n (n := 43) c_20 rfl; have z3 := sw_n (n := 45) c_23 rfl; have z4 := sw_n (n := 47) c_26 rfl; have z5 := sw_n (n := 60) c_29 rfl; have z6 := sw_n (n := 61) c_32 rfl; have z7 := sw_n (n := 62) c_35 rfl; have z8 := sw_n (n := 256) c_38 rfl; have z9 := sw_n (n := 257) c_41 rfl; have z10 := sw_n (n := 258) c_44 rfl; simp [Op.lookupswitch.offset, z0, z0.symm, Ne.symm z0, z1, z1.symm, Ne.symm z1, z2, z2.symm, Ne.symm z2, z3, z3.symm, Ne.symm z3, z4, z4.symm, Ne.symm z4, z5, z5.symm, Ne.symm z5, z6, z6.symm, Ne.symm z6, z7, z7.symm, Ne.symm z7, z8, z8.symm, Ne.symm z8, z9, z9.symm, Ne.symm z9, z10, z10.symm, Ne.symm z10]) (by decide) ?_
                        refine lv_lload_n hx hb dX16_of_277 rfl (lv_at hl 1 rfl) ?_
                        refine lv_lconst (v := 0) hx hb dX16_of_278 rfl ?_
                        refine W.lcmp hx hb dX16_of_279 ?_
                        refine lv_if_ne (tgt := 290) hx hb dX16_of_280 (by decide) (fun c_47 => ?_) (fun c_47 => ?_)
                        · replace h := h.2 (fun q => c_47 ((lg_cmp_eq _ _).mpr q))
                          exact C290 _ _ _ _ hV hS (lv_sub hl [2, 3] rfl) h
                        · replace h := h.1 ((lg_cmp_eq _ _).mp c_47)
                          refine lv_lload hx hb dX16_of_283 (lv_at hl 0 rfl) ?_
                          refine lv_lconst (v := 0) hx hb dX16_of_285 rfl ?_
                          refine W.lcmp hx hb dX16_of_286 ?_
                          refine lv_if_eq (tgt := 294) hx hb dX16_of_287 (by decide) (fun c_49 => ?_) (fun c_49 => ?_)
                          · replace h := h.1 ((lg_cmp_eq _ _).mp c_49)
                            refine lv_iconst hx hb dX16_of_294 kc_0 ?_
                            exact C295 _ _ _ _ _ hV hS (lv_sub hl [2, 3] rfl) h
                          · replace h := h.2 (fun q => c_49 ((lg_cmp_eq _ _).mpr q))
                            exact C290 _ _ _ _ hV hS (lv_sub hl [2, 3] rfl) h
def vP_G (cA : Nat → ClassId) : Nat → RTP
  | 0 => fun _ _ _ _ _ => False
  | n + 1 => fun a a1 V Post PX => bO (vO V [10, 11, 12, 13] a) (fun o => (o.1 = 10 → vX13_of cA (vP_G cA n) a a1 V Post PX) ∧ (¬ o.1 = 10 → (o.1 = 11 → vX14_of cA (vP_G cA n) a a1 V Post PX) ∧ (¬ o.1 = 11 → (o.1 = 12 → vX15_of cA (vP_G cA n) a a1 V Post PX) ∧ (¬ o.1 = 12 → vX16_of cA (vP_G cA n) a a1 V Post PX))))
theorem pm_all (l : Launch) {D : va_G} {cA : Nat → ClassId} {A : Nat → Prop} : ∀ (n a a1 : Nat) (V : VS) (Post : Int64 → VS → Prop) (PX : Nat → Nat → VS → Prop) (_ : vP_G cA n a a1 V Post PX), PM l D cA A n a a1 V Post PX := by
  intro n
  induction n with
  | zero => intro a a1 V Post PX h; exact h.elim
  | succ n ih =>
    intro a a1 V Post PX h
    rw [vP_G] at h
    obtain ⟨o, ho, h⟩ := bO_e h
    exact ⟨o, ho, fun hm => mvX13_of l n _ ih a a1 V Post PX (h.1 hm), fun hm => mvX14_of l n _ ih a a1 V Post PX ((h.2 (by omega)).1 hm), fun hm => mvX15_of l n _ ih a a1 V Post PX (((h.2 (by omega)).2 (by omega)).1 hm), fun hm => mvX16_of l n _ ih a a1 V Post PX (((h.2 (by omega)).2 (by omega)).2 (by omega))⟩
def vX1_lawAt (cA : Nat → ClassId) (a0 : Nat) (a1 : Int32) (V : VS) (Post : Int32 → VS → Prop) (PX : Nat → Nat → VS → Prop) : Prop := bO (gR V [1] a0 11) (fun p_1 => bO p_1 (fun n_3 => bO (gR V [3] n_3 2) (fun p_4 => bO p_4 (fun n_6 => bO (vO V [14] n_6) (fun o_9 => vJ2_get cA n_6 a1 V (fun p_7 V_8 => bO p_7 (fun n_11 => bO (vO V_8 [7, 8] n_11) (fun o_12 => bO (gR V_8 [1] a0 11) (fun p_14 => bO p_14 (fun n_16 => bO (gR V_8 [3] n_16 4) (fun p_17 => bO p_17 (fun n_19 => bO (lR V_8 (cA 5) n_19 (0 : Int32)) (fun p_20 => (p_20 = none → (Post (50 : Int32) V_8)) ∧ (∀ n_22 : Nat, p_20 = some n_22 → (bO (gR V_8 [7, 8] n_11 0) (fun p_23 => bO p_23 (fun n_25 => bO (vO V_8 [1] a0) (fun o_28 => vX1_nothing cA a0 n_25 V_8 (fun V_27 => bO (gR V_27 [1] a0 12) (fun p_30 => bO (gI V_27 [7, 8] n_11 4) (fun g_32 => bO (gR V_27 [7, 8] n_11 0) (fun p_34 => bO p_34 (fun n_36 => bO (gI V_27 [6] n_36 2) (fun g_37 => bO p_30 (fun n_39 => bO (tJ V_27 (cA 2) n_39 (1 : Int32) ((g_32 - g_37).toInt64)) (fun V_40 => bO (gR V_40 [1] a0 12) (fun p_42 => bO (gR V_40 [7, 8] n_11 0) (fun p_44 => bO (gI V_40 [7, 8] n_11 4) (fun g_46 => bO p_44 (fun n_48 => bO (vO V_40 [6] n_48) (fun o_51 => vX7_off cA n_48 g_46 V_40 (fun r_49 V_50 => bO p_42 (fun n_53 => bO (tJ V_50 (cA 2) n_53 (2 : Int32) r_49.toInt64) (fun V_54 => bO (gI V_54 [7, 8] n_11 2) (fun g_56 => bO (vO V_54 [1] a0) (fun o_60 => vX1_countAsks cA a0 g_56 a1 (0 : Int32) V_54 (fun V_59 => bO (gR V_59 [1] a0 11) (fun p_62 => bO p_62 (fun n_64 => bO (gR V_59 [3] n_64 4) (fun p_65 => bO p_65 (fun n_67 => bO (lR V_59 (cA 5) n_67 (0 : Int32)) (fun p_68 => bO (gR V_59 [1] a0 12) (fun p_70 => bO p_70 (fun n_72 => bO p_68 (fun n_73 => vP_G cA 80 n_73 n_72 V_59 (fun r_74 V_75 => ∀ v_78 : Int64, v_78 = (if r_74 < (100 : Int64) then r_74 else (100 : Int64)) → ∀ v_79 : Int64, v_79 = (if v_78 < (0 : Int64) then (0 : Int64) else v_78) → Post v_79.toInt32 V_75) (fun k9 q_76 V_77 => (k9 = 1 ∧ (Post (50 : Int32) V_77))))))))))))))))))))))))))))))))))))))))))))))))
abbrev rX1_lawAt : Room := { frames := 91, cells := 0, slots := 0, locals := 5160 }
theorem cdX1_lawAt : yX1_lawAt.cls = RX1 ∧ yX1_lawAt.cls ≠ "java/lang/invoke/MethodHandle" ∧ yX1_lawAt.cls ≠ "java/lang/invoke/VarHandle" ∧ (parseMethodDescriptor yX1_lawAt.desc).map (fun d => d.parameters.length) = some 1 := by decide +kernel
set_option maxHeartbeats 4000000 in
set_option maxRecDepth 100000 in
theorem mvX1_lawAt (l : Launch) {D : va_G} {cA : Nat → ClassId} {A : Nat → Prop} (a0 : Nat) (a1 : Int32) (V : VS) (Post : Int32 → VS → Prop) (PX : Nat → Nat → VS → Prop) (h : vX1_lawAt cA a0 a1 V Post PX) : vx_Met l yX1_lawAt (wsW_ yX1_lawAt cX1_lawAt 4 (some (.int)) [((85 : Nat), (112 : Nat), (113 : Nat), (366 : Nat))]) rX1_lawAt (vPc [.ref a0, .int a1] D cA A V) (va_Qi Post (vB D A) A) (vX D A PX) 0 0 A := by
  refine vstH (own := RX1) (by decide) rfl (Nat.le_of_ble_eq_true rfl) ?_
  intro p e s m args below meth c ls X hret hV hS hl
  obtain ⟨S, hK, hG, hA, hnm, hlocks, htab⟩ := X
  have hx := S.1
  have hb := S.2.1
  have hl : lv_has ls 4 [(0, .ref a0), (1, .int a1)] := hl
  unfold vX1_lawAt at h
  refine lv_aload_n hx hb dX1_lawAt_0 rfl (lv_at hl 0 rfl) ?_
  obtain ⟨p_1, e_2, h⟩ := bO_e h
  refine vg_r S hK hV fX1_49 e_2 dX1_lawAt_1 ?_
  obtain ⟨n_3, z_n_3, h9⟩ := bO_e h
  clear h; subst z_n_3; have h := h9; clear h9
  obtain ⟨p_4, e_5, h⟩ := bO_e h
  refine vg_r S hK hV fX1_173 e_5 dX1_lawAt_4 ?_
  refine lv_iload_n hx hb dX1_lawAt_7 rfl (lv_at hl 1 rfl) ?_
  obtain ⟨n_6, z_n_6, h9⟩ := bO_e h
  clear h; subst z_n_6; have h := h9; clear h9
  obtain ⟨o_9, e_10, h⟩ := bO_e h
  refine vk_q (vr_V (As := [.int a1]) (rest := []) S hK hG hA hV hS e_10 rfl (mvJ2_get l n_6 a1 V _ h) (cwV 1 S.2.2.2.2 (lw_V q973 q608 q609 q144 q610) rfl rfl rfl cdJ2_get ⟨Nat.le_of_ble_eq_true rfl, Nat.le_of_ble_eq_true rfl⟩) rfl hl.1 (Nat.le_of_ble_eq_true rfl) dX1_lawAt_8 ⟨Nat.le_refl _, Nat.le_refl _⟩) hS (fun p_7 V_8 H locs h hV hS => ?_)
  obtain ⟨n_11, z_n_11, h9⟩ := bO_e h
  clear h; subst z_n_11; have h := h9; clear h9
  obtain ⟨o_12, e_13, h⟩ := bO_e h
  refine v_cast S hK hV e_13 ct_SaidSo_Line q983 dX1_lawAt_11 ?_
  refine lv_astore_n (lv' := [(2, .ref n_11), (0, .ref a0), (1, .int a1)]) hx hb dX1_lawAt_14 rfl hl (by decide) rfl (fun ls hl => ?_)
  refine lv_aload_n hx hb dX1_lawAt_15 rfl (lv_at hl 1 rfl) ?_
  obtain ⟨p_14, e_15, h⟩ := bO_e h
  refine vg_r S hK hV fX1_49 e_15 dX1_lawAt_16 ?_
  obtain ⟨n_16, z_n_16, h9⟩ := bO_e h
  clear h; subst z_n_16; have h := h9; clear h9
  obtain ⟨p_17, e_18, h⟩ := bO_e h
  refine vg_r S hK hV fX1_338 e_18 dX1_lawAt_19 ?_
  refine lv_iconst hx hb dX1_lawAt_22 kc_0 ?_
  obtain ⟨n_19, z_n_19, h9⟩ := bO_e h
  clear h; subst z_n_19; have h := h9; clear h9
  obtain ⟨p_20, e_21, h⟩ := bO_e h
  refine vl_r S hK hV 5 rfl e_21 dX1_lawAt_23 ?_
  rcases p_20 with _ | n_22
  · replace h := h.1 rfl
    refine lv_ifnonnullN hx hb dX1_lawAt_24 ?_
    refine lv_bipush hx hb dX1_lawAt_27 kb_50 ?_
    exact vx_ret (ve_i S hlocks hret hV hS h rfl (Nat.le_refl _) (Nat.le_refl _) dX1_lawAt_29)
  · replace h := h.2 n_22 rfl
    refine lv_ifnonnull (tgt := 30) hx hb dX1_lawAt_24 (by decide) ?_
    refine lv_aload_n hx hb dX1_lawAt_30 rfl (lv_at hl 1 rfl) ?_
    refine lv_aload_n hx hb dX1_lawAt_31 rfl (lv_at hl 0 rfl) ?_
    obtain ⟨p_23, e_24, h⟩ := bO_e h
    refine vg_r S hK hV fX1_221 e_24 dX1_lawAt_32 ?_
    obtain ⟨n_25, z_n_25, h9⟩ := bO_e h
    clear h; subst z_n_25; have h := h9; clear h9
    obtain ⟨o_28, e_29, h⟩ := bO_e h
    refine vk_v (vr_V (As := [.ref n_25]) (rest := []) S hK hG hA hV hS e_29 rfl (mvX1_nothing l a0 n_25 V_8 _ h) (cwV 1 S.2.2.2.2 (lw_V q1213 q1215 qs52 q139 q1216) rfl rfl rfl cdX1_nothing ⟨Nat.le_of_ble_eq_true rfl, Nat.le_of_ble_eq_true rfl⟩) rfl hl.1 (Nat.le_of_ble_eq_true rfl) dX1_lawAt_35 ⟨Nat.le_refl _, Nat.le_refl _⟩) hS (fun V_27 H locs h hV hS => ?_)
    refine lv_aload_n hx hb dX1_lawAt_38 rfl (lv_at hl 1 rfl) ?_
    obtain ⟨p_30, e_31, h⟩ := bO_e h
    refine vg_r S hK hV fX1_53 e_31 dX1_lawAt_39 ?_
    refine lv_iconst hx hb dX1_lawAt_42 kc_1 ?_
    refine lv_aload_n hx hb dX1_lawAt_43 rfl (lv_at hl 0 rfl) ?_
    obtain ⟨g_32, e_33, h⟩ := bO_e h
    refine vg_i S hK hV fX1_178 e_33 dX1_lawAt_44 ?_
    refine lv_aload_n hx hb dX1_lawAt_47 rfl (lv_at hl 0 rfl) ?_
    obtain ⟨p_34, e_35, h⟩ := bO_e h
    refine vg_r S hK hV fX1_221 e_35 dX1_lawAt_48 ?_
    obtain ⟨n_36, z_n_36, h9⟩ := bO_e h
    clear h; subst z_n_36; have h := h9; clear h9
    obtain ⟨g_37, e_38, h⟩ := bO_e h
    refine vg_i S hK hV fX1_164 e_38 dX1_lawAt_51 ?_
    refine lv_isub hx hb dX1_lawAt_54 ?_
    refine lv_i2l hx hb dX1_lawAt_55 rfl ?_
    obtain ⟨n_39, z_n_39, h9⟩ := bO_e h
    clear h; subst z_n_39; have h := h9; clear h9
    obtain ⟨V_40, e_41, h⟩ := bO_e h
    refine vs_l S hK hV hS e_41 dX1_lawAt_56 (fun H locs hV hS => ?_)
    refine lv_aload_n hx hb dX1_lawAt_57 rfl (lv_at hl 1 rfl) ?_
    obtain ⟨p_42, e_43, h⟩ := bO_e h
    refine vg_r S hK hV fX1_53 e_43 dX1_lawAt_58 ?_
    refine lv_iconst hx hb dX1_lawAt_61 kc_2 ?_
    refine lv_aload_n hx hb dX1_lawAt_62 rfl (lv_at hl 0 rfl) ?_
    obtain ⟨p_44, e_45, h⟩ := bO_e h
    refine vg_r S hK hV fX1_221 e_45 dX1_lawAt_63 ?_
    refine lv_aload_n hx hb dX1_lawAt_66 rfl (lv_at hl 0 rfl) ?_
    obtain ⟨g_46, e_47, h⟩ := bO_e h
    refine vg_i S hK hV fX1_178 e_47 dX1_lawAt_67 ?_
    obtain ⟨n_48, z_n_48, h9⟩ := bO_e h
    clear h; subst z_n_48; have h := h9; clear h9
    obtain ⟨o_51, e_52, h⟩ := bO_e h
    refine vk_i (vr_V (As := [.int g_46]) (rest := [.int (2 : Int32), va_rf p_42]) S hK hG hA hV hS e_52 rfl (mvX7_off l n_48 g_46 V_40 _ h) (cwV 1 S.2.2.2.2 (lw_V q1217 q1218 q1219 q160 q1220) rfl rfl rfl cdX7_off ⟨Nat.le_of_ble_eq_true rfl, Nat.le_of_ble_eq_true rfl⟩) rfl hl.1 (by cases p_42 <;> exact Nat.le_of_ble_eq_true rfl) dX1_lawAt_70 ⟨Nat.le_refl _, Nat.le_refl _⟩) hS (fun r_49 V_50 H locs h hV hS => ?_)
    refine lv_i2l hx hb dX1_lawAt_73 rfl ?_
    obtain ⟨n_53, z_n_53, h9⟩ := bO_e h
    clear h; subst z_n_53; have h := h9; clear h9
    obtain ⟨V_54, e_55, h⟩ := bO_e h
    refine vs_l S hK hV hS e_55 dX1_lawAt_74 (fun H locs hV hS => ?_)
    refine lv_aload_n hx hb dX1_lawAt_75 rfl (lv_at hl 1 rfl) ?_
    refine lv_aload_n hx hb dX1_lawAt_76 rfl (lv_at hl 0 rfl) ?_
    obtain ⟨g_56, e_57, h⟩ := bO_e h
    refine vg_i S hK hV fX1_181 e_57 dX1_lawAt_77 ?_
    refine lv_iload_n hx hb dX1_lawAt_80 rfl (lv_at hl 2 rfl) ?_
    refine lv_iconst hx hb dX1_lawAt_81 kc_0 ?_
    obtain ⟨o_60, e_61, h⟩ := bO_e h
    refine vk_v (vr_V (As := [.int g_56, .int a1, .int (0 : Int32)]) (rest := []) S hK hG hA hV hS e_61 rfl (mvX1_countAsks l a0 g_56 a1 (0 : Int32) V_54 _ h) (cwV 3 S.2.2.2.2 (lw_V q1223 q1225 qs53 q139 q1226) rfl rfl rfl cdX1_countAsks ⟨Nat.le_of_ble_eq_true rfl, Nat.le_of_ble_eq_true rfl⟩) rfl hl.1 (Nat.le_of_ble_eq_true rfl) dX1_lawAt_82 ⟨Nat.le_refl _, Nat.le_refl _⟩) hS (fun V_59 H locs h hV hS => ?_)
    refine lv_lconst (v := 0) hx hb dX1_lawAt_85 rfl ?_
    refine lv_ldc2 (own := RX1) (v := 100) hx hb S.2.2.2.1 (S.2.2.2.2 _ q1227) dX1_lawAt_86 ?_
    refine lv_aload_n hx hb dX1_lawAt_89 rfl (lv_at hl 1 rfl) ?_
    obtain ⟨p_62, e_63, h⟩ := bO_e h
    refine vg_r S hK hV fX1_49 e_63 dX1_lawAt_90 ?_
    obtain ⟨n_64, z_n_64, h9⟩ := bO_e h
    clear h; subst z_n_64; have h := h9; clear h9
    obtain ⟨p_65, e_66, h⟩ := bO_e h
    refine vg_r S hK hV fX1_338 e_66 dX1_lawAt_93 ?_
    refine lv_iconst hx hb dX1_lawAt_96 kc_0 ?_
    obtain ⟨n_67, z_n_67, h9⟩ := bO_e h
    clear h; subst z_n_67; have h := h9; clear h9
    obtain ⟨p_68, e_69, h⟩ := bO_e h
    refine vl_r S hK hV 5 rfl e_69 dX1_lawAt_97 ?_
    refine lv_aload_n hx hb dX1_lawAt_98 rfl (lv_at hl 1 rfl) ?_
    obtain ⟨p_70, e_71, h⟩ := bO_e h
    refine vg_r S hK hV fX1_53 e_71 dX1_lawAt_99 ?_
    obtain ⟨n_72, z_n_72, h9⟩ := bO_e h
    clear h; subst z_n_72; have h := h9; clear h9
    obtain ⟨n_73, z_n_73, h9⟩ := bO_e h
    clear h; subst z_n_73; have h := h9; clear h9
    refine vy_l (vr_of (rest := [.long (100 : Int64), .long (0 : Int64)]) S hK hG hA hV hS q1228 (pm_all l 80 _ _ _ _ _ h) ⟨Nat.le_of_ble_eq_true rfl, Nat.le_of_ble_eq_true rfl⟩ hl.1 (Nat.le_of_ble_eq_true rfl) dX1_lawAt_102 ⟨Nat.le_refl _, Nat.le_refl _⟩) hS ?_ (fun r_74 V_75 H locs h hV hS => ?_)
    · intro k9 q_76 V_77 H locs ce hp hV hS h1 h2 h3
      obtain ⟨rfl, h⟩ := hp
      refine vx_catch (E := exN 1) (name := "SaidSo$Trouble") S.2.2.2.1 [] ⟨85, 112, 113, 366⟩ [] htab (fun z hz => by cases hz) (by decide) (by decide) (S.2.2.2.2 _ q1212) (va_Nw.use rfl (hK.2.2.2.1 _ (List.mem_of_getElem? (i := 24) rfl))) h1 h2 h3 ?_
      refine W.eq (g2 := F0 m 113 ls [.ref q_76]) rfl ?_
      refine lv_astore_n (lv' := [(3, .ref q_76), (2, .ref n_11), (0, .ref a0), (1, .int a1)]) hx hb dX1_lawAt_113 rfl hl (by decide) rfl (fun ls hl => ?_)
      refine lv_bipush hx hb dX1_lawAt_114 kb_50 ?_
      exact vx_ret (ve_i S hlocks hret hV hS h rfl (Nat.le_refl _) (Nat.le_refl _) dX1_lawAt_116)
    refine va_mmin_long hx hb (S.2.2.1.trans hl.1.symm) S.2.2.2.1 (S.2.2.2.2 _ q1263) (S.2.2.2.2 _ q1264) (S.2.2.2.2 _ q150) (S.2.2.2.2 _ q1265) (Nat.le_of_ble_eq_true rfl) (Nat.le_of_ble_eq_true rfl) (Nat.le_refl _) (Nat.le_refl _) dX1_lawAt_105 ?_
    refine lv_topl (fun v_78 e_v_78 => ?_)
    replace h := h v_78 e_v_78
    refine va_mmax_long hx hb (S.2.2.1.trans hl.1.symm) S.2.2.2.1 (S.2.2.2.2 _ q1266) (S.2.2.2.2 _ q1267) (S.2.2.2.2 _ q150) (S.2.2.2.2 _ q1268) (Nat.le_of_ble_eq_true rfl) (Nat.le_of_ble_eq_true rfl) (Nat.le_refl _) (Nat.le_refl _) dX1_lawAt_108 ?_
    refine lv_topl (fun v_79 e_v_79 => ?_)
    replace h := h v_79 e_v_79
    refine lv_l2i hx hb dX1_lawAt_111 rfl ?_
    exact vx_ret (ve_i S hlocks hret hV hS h rfl (Nat.le_refl _) (Nat.le_refl _) dX1_lawAt_112)
def vX1_law (cA : Nat → ClassId) (a0 : Nat) (a1 : Int32) (V : VS) (Post : Int32 → VS → Prop) : Prop := bO (vO V [1] a0) (fun o_3 => vX1_aWord cA a0 a1 V (fun p_1 V_2 => (p_1 = none → (Post (-1 : Int32) V_2)) ∧ (∀ n_5 : Nat, p_1 = some n_5 → (bO (vO V_2 [1] a0) (fun o_8 => vX1_lawAt cA a0 a1 V_2 (fun r_6 V_7 => Post r_6 V_7) (fun _ _ _ => False))))))
abbrev rX1_law : Room := { frames := 92, cells := 0, slots := 0, locals := 5183 }
theorem cdX1_law : yX1_law.cls = RX1 ∧ yX1_law.cls ≠ "java/lang/invoke/MethodHandle" ∧ yX1_law.cls ≠ "java/lang/invoke/VarHandle" ∧ (parseMethodDescriptor yX1_law.desc).map (fun d => d.parameters.length) = some 1 := by decide +kernel
set_option maxHeartbeats 4000000 in
set_option maxRecDepth 100000 in
theorem mvX1_law (l : Launch) {D : va_G} {cA : Nat → ClassId} {A : Nat → Prop} (a0 : Nat) (a1 : Int32) (V : VS) (Post : Int32 → VS → Prop) (h : vX1_law cA a0 a1 V Post) : Met l yX1_law (ws_ yX1_law cX1_law 2 (some (.int))) rX1_law (vPc [.ref a0, .int a1] D cA A V) (va_Qi Post (vB D A) A) 0 0 A := by
  refine vstM (own := RX1) (by decide) rfl (Nat.le_of_ble_eq_true rfl) ?_
  intro p e s m args below meth c ls X hret hV hS hl
  obtain ⟨S, hK, hG, hA, hnm, hlocks⟩ := X
  have hx := S.1
  have hb := S.2.1
  have hl : lv_has ls 2 [(0, .ref a0), (1, .int a1)] := hl
  unfold vX1_law at h
  refine lv_aload_n hx hb dX1_law_0 rfl (lv_at hl 0 rfl) ?_
  refine lv_iload_n hx hb dX1_law_1 rfl (lv_at hl 1 rfl) ?_
  obtain ⟨o_3, e_4, h⟩ := bO_e h
  refine vk_q (vr_V (As := [.int a1]) (rest := []) S hK hG hA hV hS e_4 rfl (mvX1_aWord l a0 a1 V _ h) (cwV 1 S.2.2.2.2 (lw_V q1032 q1034 qs35 q139 q1035) rfl rfl rfl cdX1_aWord ⟨Nat.le_of_ble_eq_true rfl, Nat.le_of_ble_eq_true rfl⟩) rfl hl.1 (Nat.le_of_ble_eq_true rfl) dX1_law_2 ⟨Nat.le_refl _, Nat.le_refl _⟩) hS (fun p_1 V_2 H locs h hV hS => ?_)
  rcases p_1 with _ | n_5
  · replace h := h.1 rfl
    refine lv_ifnonnullN hx hb dX1_law_5 ?_
    refine lv_iconst hx hb dX1_law_8 kc_m1 ?_
    refine lv_goto (tgt := 17) hx hb dX1_law_9 (by decide) ?_
    exact ve_i S hlocks hret hV hS h rfl (Nat.le_refl _) (Nat.le_refl _) dX1_law_17
  · replace h := h.2 n_5 rfl
    refine lv_ifnonnull (tgt := 12) hx hb dX1_law_5 (by decide) ?_
    refine lv_aload_n hx hb dX1_law_12 rfl (lv_at hl 0 rfl) ?_
    refine lv_iload_n hx hb dX1_law_13 rfl (lv_at hl 1 rfl) ?_
    obtain ⟨o_8, e_9, h⟩ := bO_e h
    refine vy_i (vr_VH (As := [.int a1]) (rest := []) S hK hG hA hV hS e_9 rfl (mvX1_lawAt l a0 a1 V_2 _ _ h) (vx_cwVW 1 S.2.2.2.2 (lw_VW q1208 q1210 qs51 q139 q1211) rfl rfl rfl cdX1_lawAt ⟨Nat.le_of_ble_eq_true rfl, Nat.le_of_ble_eq_true rfl⟩) rfl hl.1 (Nat.le_of_ble_eq_true rfl) dX1_law_14 ⟨Nat.le_refl _, Nat.le_refl _⟩) hS (fun k q V1 H1 l1 ce h => h.elim) (fun r_6 V_7 H locs h hV hS => ?_)
    exact ve_i S hlocks hret hV hS h rfl (Nat.le_refl _) (Nat.le_refl _) dX1_law_17
def vX1_putAhead_c57 (cA : Nat → ClassId) (a0 : Nat) (a1 : Int32) (k19 : Nat → Int32 → VS → Prop) (Post : Int32 → VS → Prop) (x2 : Nat) (x3 : Int32) (V : VS) : Prop := ∀ v_25 : Int32, v_25 = x3 + (-1 : Int32) → k19 x2 v_25 V
def vX1_putAhead_l19 (cA : Nat → ClassId) (a0 : Nat) (a1 : Int32) (Post : Int32 → VS → Prop) : Nat → Nat → Int32 → VS → Prop
  | 0, _, _, _ => False
  | n + 1, x2, x3, V => (x3 < 0 → (Post (-1 : Int32) V)) ∧ (¬ (x3 < 0) → (bO (gI V [7, 8] x2 2) (fun g_16 => bO (gI V [7, 8] x2 3) (fun g_18 => bO (vO V [1] a0) (fun o_22 => vX1_heard cA a0 x3 g_16 g_18 V (fun p_20 V_21 => (p_20 = none → (vX1_putAhead_c57 cA a0 a1 (vX1_putAhead_l19 cA a0 a1 Post n) Post x2 x3 V_21)) ∧ (∀ n_24 : Nat, p_20 = some n_24 → (∀ K_28 : Int32 → VS → Prop, K_28 = (fun r_26 V_27 => (r_26 = 0 → (vX1_putAhead_c57 cA a0 a1 (vX1_putAhead_l19 cA a0 a1 Post n) Post x2 x3 V_27)) ∧ (¬ (r_26 = 0) → (bO (gI V_27 [7, 8] n_24 5) (fun g_32 => Post g_32 V_27)))) → bO (vO V_21 [7, 8] n_24) (fun o_29 => (o_29.1 = 7 → vX8_isPut cA n_24 V_21 K_28) ∧ (¬ o_29.1 = 7 → vX10_isPut cA n_24 V_21 K_28))))))))))
def vX1_putAhead (cA : Nat → ClassId) (a0 : Nat) (a1 : Int32) (V : VS) (Post : Int32 → VS → Prop) : Prop := bO (gR V [1] a0 11) (fun p_1 => bO p_1 (fun n_3 => bO (gR V [3] n_3 2) (fun p_4 => bO p_4 (fun n_6 => bO (vO V [14] n_6) (fun o_9 => vJ2_get cA n_6 a1 V (fun p_7 V_8 => bO p_7 (fun n_11 => bO (vO V_8 [7, 8] n_11) (fun o_12 => ∀ v_14 : Int32, v_14 = a1 - (1 : Int32) → ∃ f, vX1_putAhead_l19 cA a0 a1 Post f n_11 v_14 V_8))))))))
abbrev rX1_putAhead : Room := { frames := 4, cells := 0, slots := 0, locals := 88 }
theorem cdX1_putAhead : yX1_putAhead.cls = RX1 ∧ yX1_putAhead.cls ≠ "java/lang/invoke/MethodHandle" ∧ yX1_putAhead.cls ≠ "java/lang/invoke/VarHandle" ∧ (parseMethodDescriptor yX1_putAhead.desc).map (fun d => d.parameters.length) = some 1 := by decide +kernel
set_option maxHeartbeats 4000000 in
set_option maxRecDepth 100000 in
theorem mvX1_putAhead (l : Launch) {D : va_G} {cA : Nat → ClassId} {A : Nat → Prop} (a0 : Nat) (a1 : Int32) (V : VS) (Post : Int32 → VS → Prop) (h : vX1_putAhead cA a0 a1 V Post) : Met l yX1_putAhead (ws_ yX1_putAhead cX1_putAhead 5 (some (.int))) rX1_putAhead (vPc [.ref a0, .int a1] D cA A V) (va_Qi Post (vB D A) A) 0 0 A := by
  refine vstM (own := RX1) (by decide) rfl (Nat.le_of_ble_eq_true rfl) ?_
  intro p e s m args below meth c ls X hret hV hS hl
  obtain ⟨S, hK, hG, hA, hnm, hlocks⟩ := X
  have hx := S.1
  have hb := S.2.1
  have hl : lv_has ls 5 [(0, .ref a0), (1, .int a1)] := hl
  have C57 : ∀ (k19 : Nat → Int32 → VS → Prop) (K19 : (∀ (x2 : Nat) (x3 : Int32) (V : VS) (H : Heap) (locs : List Loc) (ls : Array Slot), HV D A V H → va_S A s.heap H locs → lv_has ls 5 [(0, .ref a0), (1, .int a1), (2, .ref x2), (3, .int x3)] → k19 x2 x3 V → W p l e rX1_putAhead s m args below meth c H locs 0 0 (MQ below (va_Qi Post (vB D A) A) args s 0 0 A) (F0 m 19 ls []))), ∀ (x2 : Nat) (x3 : Int32) (V : VS) (H : Heap) (locs : List Loc) (ls : Array Slot), HV D A V H → va_S A s.heap H locs → lv_has ls 5 [(0, .ref a0), (1, .int a1), (2, .ref x2), (3, .int x3)] → vX1_putAhead_c57 cA a0 a1 k19 Post x2 x3 V → W p l e rX1_putAhead s m args below meth c H locs 0 0 (MQ below (va_Qi Post (vB D A) A) args s 0 0 A) (F0 m 57 ls []) := by
    intro k19 K19
    intro x2 x3 V H locs ls hV hS hl h
    unfold vX1_putAhead_c57 at h
    obtain ⟨v_25, e_v_25⟩ : ∃ y : Int32, y = x3 + (-1 : Int32) := ⟨_, rfl⟩
    replace h := h v_25 e_v_25
    refine lv_iinc (v := v_25) (lv' := [(3, .int v_25), (0, .ref a0), (1, .int a1), (2, .ref x2)]) hx hb dX1_putAhead_57 hl (k := 3) rfl (by rw [kc_m1, e_v_25]) (by decide) rfl (fun ls hl => ?_)
    refine lv_goto (tgt := 19) hx hb dX1_putAhead_60 (by decide) ?_
    exact K19 _ _ _ _ _ _ hV hS (lv_sub hl [1, 2, 3, 0] rfl) h
  have L19 : ∀ (n : Nat) (x2 : Nat) (x3 : Int32) (V : VS) (H : Heap) (locs : List Loc) (ls : Array Slot), HV D A V H → va_S A s.heap H locs → lv_has ls 5 [(0, .ref a0), (1, .int a1), (2, .ref x2), (3, .int x3)] → vX1_putAhead_l19 cA a0 a1 Post n x2 x3 V → W p l e rX1_putAhead s m args below meth c H locs 0 0 (MQ below (va_Qi Post (vB D A) A) args s 0 0 A) (F0 m 19 ls []) := by
    intro n
    induction n with
    | zero => intro x2 x3 V H locs ls hV hS hl h; rw [vX1_putAhead_l19] at h; exact h.elim
    | succ n ih =>
      intro x2 x3 V H locs ls hV hS hl h
      rw [vX1_putAhead_l19] at h
      refine lv_iload_n hx hb dX1_putAhead_19 rfl (lv_at hl 3 rfl) ?_
      refine lv_if_lt (tgt := 63) hx hb dX1_putAhead_20 (by decide) (fun c_15 => ?_) (fun c_15 => ?_)
      · replace h := h.1 c_15
        refine lv_iconst hx hb dX1_putAhead_63 kc_m1 ?_
        exact ve_i S hlocks hret hV hS h rfl (Nat.le_refl _) (Nat.le_refl _) dX1_putAhead_64
      · replace h := h.2 c_15
        refine lv_aload_n hx hb dX1_putAhead_23 rfl (lv_at hl 0 rfl) ?_
        refine lv_iload_n hx hb dX1_putAhead_24 rfl (lv_at hl 3 rfl) ?_
        refine lv_aload_n hx hb dX1_putAhead_25 rfl (lv_at hl 2 rfl) ?_
        obtain ⟨g_16, e_17, h⟩ := bO_e h
        refine vg_i S hK hV fX1_181 e_17 dX1_putAhead_26 ?_
        refine lv_aload_n hx hb dX1_putAhead_29 rfl (lv_at hl 2 rfl) ?_
        obtain ⟨g_18, e_19, h⟩ := bO_e h
        refine vg_i S hK hV fX1_184 e_19 dX1_putAhead_30 ?_
        obtain ⟨o_22, e_23, h⟩ := bO_e h
        refine vk_q (vr_V (As := [.int x3, .int g_16, .int g_18]) (rest := []) S hK hG hA hV hS e_23 rfl (mvX1_heard l a0 x3 g_16 g_18 V _ h) (cwV 3 S.2.2.2.2 (lw_V q1052 q1054 qs39 q139 q1055) rfl rfl rfl cdX1_heard ⟨Nat.le_of_ble_eq_true rfl, Nat.le_of_ble_eq_true rfl⟩) rfl hl.1 (Nat.le_of_ble_eq_true rfl) dX1_putAhead_33 ⟨Nat.le_refl _, Nat.le_refl _⟩) hS (fun p_20 V_21 H locs h hV hS => ?_)
        refine lv_astoreQ (r := p_20) (lv' := [(4, va_rf p_20), (0, .ref a0), (1, .int a1), (2, .ref x2), (3, .int x3)]) hx hb dX1_putAhead_36 hl (by decide) rfl (fun ls hl => ?_)
        refine lv_aloadQ hx hb dX1_putAhead_38 (lv_at hl 0 rfl) ?_
        rcases p_20 with _ | n_24
        · replace h := h.1 rfl
          refine lv_ifnullN (tgt := 57) hx hb dX1_putAhead_40 (by decide) ?_
          exact C57 _ ih _ _ _ _ _ _ hV hS (lv_sub hl [1, 2, 3, 4] rfl) h
        · replace h := h.2 n_24 rfl
          refine lv_ifnull hx hb dX1_putAhead_40 ?_
          refine lv_aload hx hb dX1_putAhead_43 (lv_at hl 0 rfl) ?_
          obtain ⟨K_28, e_K_28⟩ : ∃ y : Int32 → VS → Prop, y = (fun r_26 V_27 => (r_26 = 0 → (vX1_putAhead_c57 cA a0 a1 (vX1_putAhead_l19 cA a0 a1 Post n) Post x2 x3 V_27)) ∧ (¬ (r_26 = 0) → (bO (gI V_27 [7, 8] n_24 5) (fun g_32 => Post g_32 V_27)))) := ⟨_, rfl⟩
          replace h := h K_28 e_K_28
          obtain ⟨o_29, e_30, h⟩ := bO_e h
          have hm := (vO_e e_30).2
          simp only [List.mem_cons, List.not_mem_nil, or_false] at hm
          have KK : ∀ (r_26 : Int32) (V_27 : VS) (H1 : Heap) (locs1 : List Loc), K_28 r_26 V_27 → HV D A V_27 H1 → va_S A s.heap H1 locs1 → W p l e rX1_putAhead s m args below meth c H1 locs1 (0) (0) (MQ below (va_Qi Post (vB D A) A) args s 0 0 A) (F0 m 48 ls (.int r_26 :: [])) := by
            intro r_26 V_27 H locs h hV hS
            rw [e_K_28] at h
            refine lv_if_eq (tgt := 57) hx hb dX1_putAhead_48 (by decide) (fun c_31 => ?_) (fun c_31 => ?_)
            · replace h := h.1 c_31
              exact C57 _ ih _ _ _ _ _ _ hV hS (lv_sub hl [1, 2, 3, 4] rfl) h
            · replace h := h.2 c_31
              refine lv_aload hx hb dX1_putAhead_51 (lv_at hl 0 rfl) ?_
              obtain ⟨g_32, e_33, h⟩ := bO_e h
              refine vg_i S hK hV fX1_199 e_33 dX1_putAhead_53 ?_
              exact ve_i S hlocks hret hV hS h rfl (Nat.le_refl _) (Nat.le_refl _) dX1_putAhead_56
          by_cases OC0 : o_29.1 = 7
          · replace h := h.1 OC0
            exact vk_i (vr_U (As := []) (rest := []) S hK hG hA hV hS e_30 OC0 rfl (mvX8_isPut l n_24 V_21 _ h) (va_cwU 0 S.2.2.2.2 (lw_U q1068 q1070 q1074 q1069 q161 q1075) rfl rfl rfl rfl (by decide +kernel) ⟨Nat.le_of_ble_eq_true rfl, Nat.le_of_ble_eq_true rfl⟩) rfl hl.1 (Nat.le_of_ble_eq_true rfl) dX1_putAhead_45 ⟨Nat.le_refl _, Nat.le_refl _⟩) hS KK
          · replace h := h.2 OC0
            have OC1 : o_29.1 = 8 := by omega
            exact vk_i (vr_U (As := []) (rest := []) S hK hG hA hV hS e_30 OC1 rfl (mvX10_isPut l n_24 V_21 _ h) (va_cwO 0 S.2.2.2.2 (lw_O q1068 q1070 q1069 q1071 q1072 q163 q1073) rfl rfl rfl q1075 (by decide +kernel) ⟨Nat.le_of_ble_eq_true rfl, Nat.le_of_ble_eq_true rfl⟩) rfl hl.1 (Nat.le_of_ble_eq_true rfl) dX1_putAhead_45 ⟨Nat.le_refl _, Nat.le_refl _⟩) hS KK
  unfold vX1_putAhead at h
  refine lv_aload_n hx hb dX1_putAhead_0 rfl (lv_at hl 0 rfl) ?_
  obtain ⟨p_1, e_2, h⟩ := bO_e h
  refine vg_r S hK hV fX1_49 e_2 dX1_putAhead_1 ?_
  obtain ⟨n_3, z_n_3, h9⟩ := bO_e h
  clear h; subst z_n_3; have h := h9; clear h9
  obtain ⟨p_4, e_5, h⟩ := bO_e h
  refine vg_r S hK hV fX1_173 e_5 dX1_putAhead_4 ?_
  refine lv_iload_n hx hb dX1_putAhead_7 rfl (lv_at hl 1 rfl) ?_
  obtain ⟨n_6, z_n_6, h9⟩ := bO_e h
  clear h; subst z_n_6; have h := h9; clear h9
  obtain ⟨o_9, e_10, h⟩ := bO_e h
  refine vk_q (vr_V (As := [.int a1]) (rest := []) S hK hG hA hV hS e_10 rfl (mvJ2_get l n_6 a1 V _ h) (cwV 1 S.2.2.2.2 (lw_V q973 q608 q609 q144 q610) rfl rfl rfl cdJ2_get ⟨Nat.le_of_ble_eq_true rfl, Nat.le_of_ble_eq_true rfl⟩) rfl hl.1 (Nat.le_of_ble_eq_true rfl) dX1_putAhead_8 ⟨Nat.le_refl _, Nat.le_refl _⟩) hS (fun p_7 V_8 H locs h hV hS => ?_)
  obtain ⟨n_11, z_n_11, h9⟩ := bO_e h
  clear h; subst z_n_11; have h := h9; clear h9
  obtain ⟨o_12, e_13, h⟩ := bO_e h
  refine v_cast S hK hV e_13 ct_SaidSo_Line q983 dX1_putAhead_11 ?_
  refine lv_astore_n (lv' := [(2, .ref n_11), (0, .ref a0), (1, .int a1)]) hx hb dX1_putAhead_14 rfl hl (by decide) rfl (fun ls hl => ?_)
  refine lv_iload_n hx hb dX1_putAhead_15 rfl (lv_at hl 2 rfl) ?_
  refine lv_iconst hx hb dX1_putAhead_16 kc_1 ?_
  refine lv_isub hx hb dX1_putAhead_17 ?_
  refine lv_topi (fun v_14 e_v_14 => ?_)
  replace h := h v_14 e_v_14
  refine lv_istore_n (lv' := [(3, .int v_14), (2, .ref n_11), (0, .ref a0), (1, .int a1)]) hx hb dX1_putAhead_18 rfl hl (by decide) rfl (fun ls hl => ?_)
  obtain ⟨f, h⟩ := h
  exact L19 f _ _ _ _ _ _ hV hS (lv_sub hl [2, 3, 1, 0] rfl) h
def vX1_next (cA : Nat → ClassId) (a0 : Nat) (a1 : Int32) (V : VS) (Post : Int32 → VS → Prop) : Prop := bO (gI V [1] a0 17) (fun g_1 => bO (pF V [1] a0 17 (.int (((g_1 * (1103515245 : Int32)) + (12345 : Int32)) &&& (2147483647 : Int32)))) (fun V_3 => bO (gI V_3 [1] a0 17) (fun g_5 => (¬ a1 = 0 ∧ Post ((g_5 >>> ((16 : Int32) &&& (31 : Int32))) - (g_5 >>> ((16 : Int32) &&& (31 : Int32))) / a1 * a1) V_3))))
abbrev rX1_next : Room := { frames := 0, cells := 0, slots := 0, locals := 0 }
theorem cdX1_next : yX1_next.cls = RX1 ∧ yX1_next.cls ≠ "java/lang/invoke/MethodHandle" ∧ yX1_next.cls ≠ "java/lang/invoke/VarHandle" ∧ (parseMethodDescriptor yX1_next.desc).map (fun d => d.parameters.length) = some 1 := by decide +kernel
set_option maxHeartbeats 4000000 in
set_option maxRecDepth 100000 in
theorem mvX1_next (l : Launch) {D : va_G} {cA : Nat → ClassId} {A : Nat → Prop} (a0 : Nat) (a1 : Int32) (V : VS) (Post : Int32 → VS → Prop) (h : vX1_next cA a0 a1 V Post) : Met l yX1_next (ws_ yX1_next cX1_next 2 (some (.int))) rX1_next (vPc [.ref a0, .int a1] D cA A V) (va_Qi Post (vB D A) A) 0 0 A := by
  refine vstM (own := RX1) (by decide) rfl (Nat.le_of_ble_eq_true rfl) ?_
  intro p e s m args below meth c ls X hret hV hS hl
  obtain ⟨S, hK, hG, hA, hnm, hlocks⟩ := X
  have hx := S.1
  have hb := S.2.1
  have hl : lv_has ls 2 [(0, .ref a0), (1, .int a1)] := hl
  unfold vX1_next at h
  refine lv_aload_n hx hb dX1_next_0 rfl (lv_at hl 0 rfl) ?_
  refine lv_aload_n hx hb dX1_next_1 rfl (lv_at hl 0 rfl) ?_
  obtain ⟨g_1, e_2, h⟩ := bO_e h
  refine vg_i S hK hV fX1_371 e_2 dX1_next_2 ?_
  refine lv_ldcw (own := RX1) (v := 1103515245) hx hb S.2.2.2.1 (S.2.2.2.2 _ q1281) dX1_next_5 ?_
  refine lv_imul hx hb dX1_next_8 ?_
  refine lv_sipush hx hb dX1_next_9 ks_12345 ?_
  refine lv_iadd hx hb dX1_next_12 ?_
  refine lv_ldcw (own := RX1) (v := 2147483647) hx hb S.2.2.2.1 (S.2.2.2.2 _ q1282) dX1_next_13 ?_
  refine lv_iand hx hb dX1_next_16 ?_
  obtain ⟨V_3, e_4, h⟩ := bO_e h
  refine vp_v (v := .int (((g_1 * (1103515245 : Int32)) + (12345 : Int32)) &&& (2147483647 : Int32))) S hK hV hS fX1_371 (Or.inl rfl) rfl rfl e_4 dX1_next_17 (fun H locs hV hS => ?_)
  refine lv_aload_n hx hb dX1_next_20 rfl (lv_at hl 0 rfl) ?_
  obtain ⟨g_5, e_6, h⟩ := bO_e h
  refine vg_i S hK hV fX1_371 e_6 dX1_next_21 ?_
  refine lv_bipush hx hb dX1_next_24 kb_16 ?_
  refine lv_ishr hx hb dX1_next_26 ?_
  refine lv_iload_n hx hb dX1_next_27 rfl (lv_at hl 1 rfl) ?_
  obtain ⟨hz, h⟩ := h
  refine lv_irem hx hb dX1_next_28 hz ?_
  exact ve_i S hlocks hret hV hS h rfl (Nat.le_refl _) (Nat.le_refl _) dX1_next_29
def vX1_draws_c281 (cA : Nat → ClassId) (a0 : Nat) (a1 : Int32) (a2 : Int32) (a3 : Int32) (k149 : Int32 → Int32 → Int32 → Int32 → VS → Prop) (Post : Int32 → VS → Prop) (x4 : Int32) (x5 : Int32) (x7 : Int32) (t0 : Int32) (t1 : Int32) (V : VS) : Prop := ∀ v_25 : Int32, v_25 = t1 + t0 → ∀ v_26 : Int32, v_26 = x7 + (1 : Int32) → k149 x4 x5 v_25 v_26 V
def vX1_draws_c258 (cA : Nat → ClassId) (a0 : Nat) (a1 : Int32) (a2 : Int32) (a3 : Int32) (k149 : Int32 → Int32 → Int32 → Int32 → VS → Prop) (k161 : Int32 → Int32 → Int32 → Int32 → Int32 → Int32 → VS → Prop) (Post : Int32 → VS → Prop) (x4 : Int32) (x5 : Int32) (x6 : Int32) (x7 : Int32) (x9 : Int32) (t0 : Int32) (t1 : Int32) (V : VS) : Prop := ∀ v_63 : Int32, v_63 = t1 + t0 → ∀ v_64 : Int32, v_64 = x9 + (1 : Int32) → k161 x4 x5 x6 x7 v_63 v_64 V
def vX1_draws_c239 (cA : Nat → ClassId) (a0 : Nat) (a1 : Int32) (a2 : Int32) (a3 : Int32) (k149 : Int32 → Int32 → Int32 → Int32 → VS → Prop) (k161 : Int32 → Int32 → Int32 → Int32 → Int32 → Int32 → VS → Prop) (Post : Int32 → VS → Prop) (x4 : Int32) (x5 : Int32) (x6 : Int32) (x7 : Int32) (x8 : Int32) (x9 : Int32) (x10 : Nat) (t0 : Int32) (V : VS) : Prop := bO (gI V [5] x10 2) (fun g_60 => (t0 = g_60 → (vX1_draws_c258 cA a0 a1 a2 a3 k149 k161 Post x4 x5 x6 x7 x9 (1 : Int32) x8 V)) ∧ (¬ (t0 = g_60) → (vX1_draws_c258 cA a0 a1 a2 a3 k149 k161 Post x4 x5 x6 x7 x9 (0 : Int32) x8 V)))
def vX1_draws_c230 (cA : Nat → ClassId) (a0 : Nat) (a1 : Int32) (a2 : Int32) (a3 : Int32) (k149 : Int32 → Int32 → Int32 → Int32 → VS → Prop) (k161 : Int32 → Int32 → Int32 → Int32 → Int32 → Int32 → VS → Prop) (Post : Int32 → VS → Prop) (x4 : Int32) (x5 : Int32) (x6 : Int32) (x7 : Int32) (x8 : Int32) (x9 : Int32) (x10 : Option Nat) (V : VS) : Prop := bO x10 (fun n_53 => bO (gI V [5] n_53 1) (fun g_54 => bO (vO V [1] a0) (fun o_58 => vX1_next cA a0 g_54 V (fun r_56 V_57 => vX1_draws_c239 cA a0 a1 a2 a3 k149 k161 Post x4 x5 x6 x7 x8 x9 n_53 r_56 V_57))))
def vX1_draws_l161 (cA : Nat → ClassId) (a0 : Nat) (a1 : Int32) (a2 : Int32) (a3 : Int32) (k149 : Int32 → Int32 → Int32 → Int32 → VS → Prop) (Post : Int32 → VS → Prop) : Nat → Int32 → Int32 → Int32 → Int32 → Int32 → Int32 → VS → Prop
  | 0, _, _, _, _, _, _, _ => False
  | n + 1, x4, x5, x6, x7, x8, x9, V => (x4 ≤ x9 → ((x8 < x5 → (vX1_draws_c281 cA a0 a1 a2 a3 k149 Post x4 x5 x7 (0 : Int32) x6 V)) ∧ (¬ (x8 < x5) → (vX1_draws_c281 cA a0 a1 a2 a3 k149 Post x4 x5 x7 (1 : Int32) x6 V)))) ∧ (¬ (x4 ≤ x9) → (bO (gR V [1] a0 11) (fun p_27 => bO p_27 (fun n_29 => bO (gR V [3] n_29 2) (fun p_30 => bO (gR V [1] a0 18) (fun p_32 => bO p_32 (fun n_34 => bO (lI V (cA 0) n_34 x9) (fun g_35 => bO p_30 (fun n_37 => bO (vO V [14] n_37) (fun o_40 => vJ2_get cA n_37 g_35 V (fun p_38 V_39 => bO p_38 (fun n_42 => bO (vO V_39 [7, 8] n_42) (fun o_43 => bO (gR V_39 [7, 8] n_42 1) (fun p_45 => bO (gR V_39 [1] a0 20) (fun p_47 => bO p_47 (fun n_49 => bO (lI V_39 (cA 0) n_49 x9) (fun g_50 => (g_50 = (-1 : Int32) → (vX1_draws_c230 cA a0 a1 a2 a3 k149 (vX1_draws_l161 cA a0 a1 a2 a3 k149 Post n) Post x4 x5 x6 x7 x8 x9 p_45 V_39)) ∧ (¬ (g_50 = (-1 : Int32)) → (bO (vO V_39 [1] a0) (fun o_67 => vX1_next cA a0 (100 : Int32) V_39 (fun r_65 V_66 => bO (gR V_66 [1] a0 19) (fun p_69 => bO p_69 (fun n_71 => bO (lI V_66 (cA 0) n_71 x9) (fun g_72 => (g_72 ≤ r_65 → (vX1_draws_c230 cA a0 a1 a2 a3 k149 (vX1_draws_l161 cA a0 a1 a2 a3 k149 Post n) Post x4 x5 x6 x7 x8 x9 p_45 V_66)) ∧ (¬ (g_72 ≤ r_65) → (bO (gR V_66 [1] a0 20) (fun p_75 => bO p_75 (fun n_77 => bO (lI V_66 (cA 0) n_77 x9) (fun g_78 => bO p_45 (fun n_80 => vX1_draws_c239 cA a0 a1 a2 a3 k149 (vX1_draws_l161 cA a0 a1 a2 a3 k149 Post n) Post x4 x5 x6 x7 x8 x9 n_80 g_78 V_66))))))))))))))))))))))))))))))
def vX1_draws_l149 (cA : Nat → ClassId) (a0 : Nat) (a1 : Int32) (a2 : Int32) (a3 : Int32) (Post : Int32 → VS → Prop) : Nat → Int32 → Int32 → Int32 → Int32 → VS → Prop
  | 0, _, _, _, _, _ => False
  | n + 1, x4, x5, x6, x7, V => (a3 ≤ x7 → (Post x6 V)) ∧ (¬ (a3 ≤ x7) → (∃ f, vX1_draws_l161 cA a0 a1 a2 a3 (vX1_draws_l149 cA a0 a1 a2 a3 Post n) Post f x4 x5 x6 x7 (0 : Int32) (0 : Int32) V))
def vX1_draws_c135 (cA : Nat → ClassId) (a0 : Nat) (a1 : Int32) (a2 : Int32) (a3 : Int32) (k36 : Int32 → Int32 → Int32 → Int32 → VS → Prop) (Post : Int32 → VS → Prop) (x4 : Int32) (x5 : Int32) (x6 : Int32) (x7 : Int32) (V : VS) : Prop := ∀ v_86 : Int32, v_86 = x7 + (1 : Int32) → k36 x4 x5 x6 v_86 V
def vX1_draws_c132 (cA : Nat → ClassId) (a0 : Nat) (a1 : Int32) (a2 : Int32) (a3 : Int32) (k36 : Int32 → Int32 → Int32 → Int32 → VS → Prop) (Post : Int32 → VS → Prop) (x4 : Int32) (x6 : Int32) (x7 : Int32) (t0 : Int32) (t1 : Int32) (V : VS) : Prop := ∀ v_121 : Int32, v_121 = t1 + t0 → vX1_draws_c135 cA a0 a1 a2 a3 k36 Post x4 v_121 x6 x7 V
def vX1_draws_l36 (cA : Nat → ClassId) (a0 : Nat) (a1 : Int32) (a2 : Int32) (a3 : Int32) (Post : Int32 → VS → Prop) : Nat → Int32 → Int32 → Int32 → Int32 → VS → Prop
  | 0, _, _, _, _, _ => False
  | n + 1, x4, x5, x6, x7, V => bO (gR V [1] a0 11) (fun p_9 => bO p_9 (fun n_11 => bO (gR V [3] n_11 2) (fun p_12 => bO p_12 (fun n_14 => bO (vO V [14] n_14) (fun o_17 => vJ2_size cA n_14 V (fun r_15 V_16 => (r_15 ≤ x7 → (bO (pF V_16 [1] a0 17 (.int a2)) (fun V_20 => ∃ f, vX1_draws_l149 cA a0 a1 a2 a3 Post f x4 x5 x6 (0 : Int32) V_20))) ∧ (¬ (r_15 ≤ x7) → (bO (vO V_16 [1] a0) (fun o_83 => vX1_word_2 cA a0 x7 a1 (-1 : Int32) V_16 (fun p_81 V_82 => (p_81 = none → (vX1_draws_c135 cA a0 a1 a2 a3 (vX1_draws_l36 cA a0 a1 a2 a3 Post n) Post x4 x5 x6 x7 V_82)) ∧ (∀ n_85 : Nat, p_81 = some n_85 → (bO (vO V_82 [1] a0) (fun o_89 => vX1_isFirst cA a0 x7 (0 : Int32) V_82 (fun r_87 V_88 => (r_87 = 0 → (vX1_draws_c135 cA a0 a1 a2 a3 (vX1_draws_l36 cA a0 a1 a2 a3 Post n) Post x4 x5 x6 x7 V_88)) ∧ (¬ (r_87 = 0) → (bO (gR V_88 [1] a0 18) (fun p_92 => bO p_92 (fun n_94 => bO (tI V_88 (cA 0) n_94 x4 x7) (fun V_95 => bO (gR V_95 [1] a0 19) (fun p_97 => bO (vO V_95 [1] a0) (fun o_101 => vX1_lawAt cA a0 x7 V_95 (fun r_99 V_100 => bO p_97 (fun n_103 => bO (tI V_100 (cA 0) n_103 x4 r_99) (fun V_104 => bO (gR V_104 [1] a0 20) (fun p_106 => bO (vO V_104 [1] a0) (fun o_110 => vX1_putAhead cA a0 x7 V_104 (fun r_108 V_109 => bO p_106 (fun n_112 => bO (tI V_109 (cA 0) n_112 x4 r_108) (fun V_113 => ∀ v_115 : Int32, v_115 = x4 + (1 : Int32) → bO (vO V_113 [7] n_85) (fun o_118 => vX9_isRight cA n_85 V_113 (fun r_116 V_117 => (r_116 = 0 → (vX1_draws_c132 cA a0 a1 a2 a3 (vX1_draws_l36 cA a0 a1 a2 a3 Post n) Post v_115 x6 x7 (0 : Int32) x5 V_117)) ∧ (¬ (r_116 = 0) → (vX1_draws_c132 cA a0 a1 a2 a3 (vX1_draws_l36 cA a0 a1 a2 a3 Post n) Post v_115 x6 x7 (1 : Int32) x5 V_117)))))))))))) (fun _ _ _ => False))))))))))))))))))))))
def vX1_draws (cA : Nat → ClassId) (a0 : Nat) (a1 : Int32) (a2 : Int32) (a3 : Int32) (V : VS) (Post : Int32 → VS → Prop) : Prop := bO (vO V [1] a0) (fun o_3 => vX1_isTeller cA a0 a1 V (fun r_1 V_2 => (r_1 = 0 → (Post (-1 : Int32) V_2)) ∧ (¬ (r_1 = 0) → ((a2 < 0 → (Post (-1 : Int32) V_2)) ∧ (¬ (a2 < 0) → (w1_in a3 (1 : Int32) (99 : Int32) (fun r_7 => (r_7 = 0 → (Post (-1 : Int32) V_2)) ∧ (¬ (r_7 = 0) → (∃ f, vX1_draws_l36 cA a0 a1 a2 a3 Post f (0 : Int32) (0 : Int32) (0 : Int32) (0 : Int32) V_2)))))))))
abbrev rX1_draws : Room := { frames := 92, cells := 0, slots := 0, locals := 5183 }
theorem cdX1_draws : yX1_draws.cls = RX1 ∧ yX1_draws.cls ≠ "java/lang/invoke/MethodHandle" ∧ yX1_draws.cls ≠ "java/lang/invoke/VarHandle" ∧ (parseMethodDescriptor yX1_draws.desc).map (fun d => d.parameters.length) = some 3 := by decide +kernel
set_option maxHeartbeats 4000000 in
set_option maxRecDepth 100000 in
theorem mvX1_draws (l : Launch) {D : va_G} {cA : Nat → ClassId} {A : Nat → Prop} (a0 : Nat) (a1 : Int32) (a2 : Int32) (a3 : Int32) (V : VS) (Post : Int32 → VS → Prop) (h : vX1_draws cA a0 a1 a2 a3 V Post) : Met l yX1_draws (ws_ yX1_draws cX1_draws 12 (some (.int))) rX1_draws (vPc [.ref a0, .int a1, .int a2, .int a3] D cA A V) (va_Qi Post (vB D A) A) 0 0 A := by
  refine vstM (own := RX1) (by decide) rfl (Nat.le_of_ble_eq_true rfl) ?_
  intro p e s m args below meth c ls X hret hV hS hl
  obtain ⟨S, hK, hG, hA, hnm, hlocks⟩ := X
  have hx := S.1
  have hb := S.2.1
  have hl : lv_has ls 12 [(0, .ref a0), (1, .int a1), (2, .int a2), (3, .int a3)] := hl
  have C281 : ∀ (k149 : Int32 → Int32 → Int32 → Int32 → VS → Prop) (K149 : (∀ (x4 : Int32) (x5 : Int32) (x6 : Int32) (x7 : Int32) (V : VS) (H : Heap) (locs : List Loc) (ls : Array Slot), HV D A V H → va_S A s.heap H locs → lv_has ls 12 [(0, .ref a0), (1, .int a1), (2, .int a2), (3, .int a3), (4, .int x4), (5, .int x5), (6, .int x6), (7, .int x7)] → k149 x4 x5 x6 x7 V → W p l e rX1_draws s m args below meth c H locs 0 0 (MQ below (va_Qi Post (vB D A) A) args s 0 0 A) (F0 m 149 ls []))), ∀ (x4 : Int32) (x5 : Int32) (x7 : Int32) (t0 : Int32) (t1 : Int32) (V : VS) (H : Heap) (locs : List Loc) (ls : Array Slot), HV D A V H → va_S A s.heap H locs → lv_has ls 12 [(0, .ref a0), (1, .int a1), (2, .int a2), (3, .int a3), (4, .int x4), (5, .int x5), (7, .int x7)] → vX1_draws_c281 cA a0 a1 a2 a3 k149 Post x4 x5 x7 t0 t1 V → W p l e rX1_draws s m args below meth c H locs 0 0 (MQ below (va_Qi Post (vB D A) A) args s 0 0 A) (F0 m 281 ls [.int t0, .int t1]) := by
    intro k149 K149
    intro x4 x5 x7 t0 t1 V H locs ls hV hS hl h
    unfold vX1_draws_c281 at h
    refine lv_iadd hx hb dX1_draws_281 ?_
    refine lv_topi (fun v_25 e_v_25 => ?_)
    replace h := h v_25 e_v_25
    refine lv_istore (lv' := [(6, .int v_25), (0, .ref a0), (1, .int a1), (2, .int a2), (3, .int a3), (4, .int x4), (5, .int x5), (7, .int x7)]) hx hb dX1_draws_282 hl (by decide) rfl (fun ls hl => ?_)
    obtain ⟨v_26, e_v_26⟩ : ∃ y : Int32, y = x7 + (1 : Int32) := ⟨_, rfl⟩
    replace h := h v_26 e_v_26
    refine lv_iinc (v := v_26) (lv' := [(7, .int v_26), (6, .int v_25), (0, .ref a0), (1, .int a1), (2, .int a2), (3, .int a3), (4, .int x4), (5, .int x5)]) hx hb dX1_draws_284 hl (k := 7) rfl (by rw [kc_1, e_v_26]) (by decide) rfl (fun ls hl => ?_)
    refine lv_goto (tgt := 149) hx hb dX1_draws_287 (by decide) ?_
    exact K149 _ _ _ _ _ _ _ _ hV hS (lv_sub hl [2, 3, 4, 5, 6, 7, 1, 0] rfl) h
  have C258 : ∀ (k149 : Int32 → Int32 → Int32 → Int32 → VS → Prop) (K149 : (∀ (x4 : Int32) (x5 : Int32) (x6 : Int32) (x7 : Int32) (V : VS) (H : Heap) (locs : List Loc) (ls : Array Slot), HV D A V H → va_S A s.heap H locs → lv_has ls 12 [(0, .ref a0), (1, .int a1), (2, .int a2), (3, .int a3), (4, .int x4), (5, .int x5), (6, .int x6), (7, .int x7)] → k149 x4 x5 x6 x7 V → W p l e rX1_draws s m args below meth c H locs 0 0 (MQ below (va_Qi Post (vB D A) A) args s 0 0 A) (F0 m 149 ls []))) (k161 : Int32 → Int32 → Int32 → Int32 → Int32 → Int32 → VS → Prop) (K161 : (∀ (x4 : Int32) (x5 : Int32) (x6 : Int32) (x7 : Int32) (x8 : Int32) (x9 : Int32) (V : VS) (H : Heap) (locs : List Loc) (ls : Array Slot), HV D A V H → va_S A s.heap H locs → lv_has ls 12 [(0, .ref a0), (1, .int a1), (2, .int a2), (3, .int a3), (4, .int x4), (5, .int x5), (6, .int x6), (7, .int x7), (8, .int x8), (9, .int x9)] → k161 x4 x5 x6 x7 x8 x9 V → W p l e rX1_draws s m args below meth c H locs 0 0 (MQ below (va_Qi Post (vB D A) A) args s 0 0 A) (F0 m 161 ls []))), ∀ (x4 : Int32) (x5 : Int32) (x6 : Int32) (x7 : Int32) (x9 : Int32) (t0 : Int32) (t1 : Int32) (V : VS) (H : Heap) (locs : List Loc) (ls : Array Slot), HV D A V H → va_S A s.heap H locs → lv_has ls 12 [(0, .ref a0), (1, .int a1), (2, .int a2), (3, .int a3), (4, .int x4), (5, .int x5), (6, .int x6), (7, .int x7), (9, .int x9)] → vX1_draws_c258 cA a0 a1 a2 a3 k149 k161 Post x4 x5 x6 x7 x9 t0 t1 V → W p l e rX1_draws s m args below meth c H locs 0 0 (MQ below (va_Qi Post (vB D A) A) args s 0 0 A) (F0 m 258 ls [.int t0, .int t1]) := by
    intro k149 K149 k161 K161
    intro x4 x5 x6 x7 x9 t0 t1 V H locs ls hV hS hl h
    unfold vX1_draws_c258 at h
    refine lv_iadd hx hb dX1_draws_258 ?_
    refine lv_topi (fun v_63 e_v_63 => ?_)
    replace h := h v_63 e_v_63
    refine lv_istore (lv' := [(8, .int v_63), (0, .ref a0), (1, .int a1), (2, .int a2), (3, .int a3), (4, .int x4), (5, .int x5), (6, .int x6), (7, .int x7), (9, .int x9)]) hx hb dX1_draws_259 hl (by decide) rfl (fun ls hl => ?_)
    obtain ⟨v_64, e_v_64⟩ : ∃ y : Int32, y = x9 + (1 : Int32) := ⟨_, rfl⟩
    replace h := h v_64 e_v_64
    refine lv_iinc (v := v_64) (lv' := [(9, .int v_64), (8, .int v_63), (0, .ref a0), (1, .int a1), (2, .int a2), (3, .int a3), (4, .int x4), (5, .int x5), (6, .int x6), (7, .int x7)]) hx hb dX1_draws_261 hl (k := 9) rfl (by rw [kc_1, e_v_64]) (by decide) rfl (fun ls hl => ?_)
    refine lv_goto (tgt := 161) hx hb dX1_draws_264 (by decide) ?_
    exact K161 _ _ _ _ _ _ _ _ _ _ hV hS (lv_sub hl [2, 3, 4, 5, 6, 7, 8, 9, 1, 0] rfl) h
  have C239 : ∀ (k149 : Int32 → Int32 → Int32 → Int32 → VS → Prop) (K149 : (∀ (x4 : Int32) (x5 : Int32) (x6 : Int32) (x7 : Int32) (V : VS) (H : Heap) (locs : List Loc) (ls : Array Slot), HV D A V H → va_S A s.heap H locs → lv_has ls 12 [(0, .ref a0), (1, .int a1), (2, .int a2), (3, .int a3), (4, .int x4), (5, .int x5), (6, .int x6), (7, .int x7)] → k149 x4 x5 x6 x7 V → W p l e rX1_draws s m args below meth c H locs 0 0 (MQ below (va_Qi Post (vB D A) A) args s 0 0 A) (F0 m 149 ls []))) (k161 : Int32 → Int32 → Int32 → Int32 → Int32 → Int32 → VS → Prop) (K161 : (∀ (x4 : Int32) (x5 : Int32) (x6 : Int32) (x7 : Int32) (x8 : Int32) (x9 : Int32) (V : VS) (H : Heap) (locs : List Loc) (ls : Array Slot), HV D A V H → va_S A s.heap H locs → lv_has ls 12 [(0, .ref a0), (1, .int a1), (2, .int a2), (3, .int a3), (4, .int x4), (5, .int x5), (6, .int x6), (7, .int x7), (8, .int x8), (9, .int x9)] → k161 x4 x5 x6 x7 x8 x9 V → W p l e rX1_draws s m args below meth c H locs 0 0 (MQ below (va_Qi Post (vB D A) A) args s 0 0 A) (F0 m 161 ls []))), ∀ (x4 : Int32) (x5 : Int32) (x6 : Int32) (x7 : Int32) (x8 : Int32) (x9 : Int32) (x10 : Nat) (t0 : Int32) (V : VS) (H : Heap) (locs : List Loc) (ls : Array Slot), HV D A V H → va_S A s.heap H locs → lv_has ls 12 [(0, .ref a0), (1, .int a1), (2, .int a2), (3, .int a3), (4, .int x4), (5, .int x5), (6, .int x6), (7, .int x7), (8, .int x8), (9, .int x9), (10, .ref x10)] → vX1_draws_c239 cA a0 a1 a2 a3 k149 k161 Post x4 x5 x6 x7 x8 x9 x10 t0 V → W p l e rX1_draws s m args below meth c H locs 0 0 (MQ below (va_Qi Post (vB D A) A) args s 0 0 A) (F0 m 239 ls [.int t0]) := by
    intro k149 K149 k161 K161
    intro x4 x5 x6 x7 x8 x9 x10 t0 V H locs ls hV hS hl h
    unfold vX1_draws_c239 at h
    refine lv_istore (lv' := [(11, .int t0), (0, .ref a0), (1, .int a1), (2, .int a2), (3, .int a3), (4, .int x4), (5, .int x5), (6, .int x6), (7, .int x7), (8, .int x8), (9, .int x9), (10, .ref x10)]) hx hb dX1_draws_239 hl (by decide) rfl (fun ls hl => ?_)
    refine lv_iload hx hb dX1_draws_241 (lv_at hl 9 rfl) ?_
    refine lv_iload hx hb dX1_draws_243 (lv_at hl 0 rfl) ?_
    refine lv_aload hx hb dX1_draws_245 (lv_at hl 11 rfl) ?_
    obtain ⟨g_60, e_61, h⟩ := bO_e h
    refine vg_i S hK hV fX1_144 e_61 dX1_draws_247 ?_
    refine lv_icmp_ne (tgt := 257) hx hb dX1_draws_250 (by decide) (fun c_62 => ?_) (fun c_62 => ?_)
    · replace h := h.2 c_62
      refine lv_iconst hx hb dX1_draws_257 kc_0 ?_
      exact C258 _ K149 _ K161 _ _ _ _ _ _ _ _ _ _ _ hV hS (lv_sub hl [1, 2, 3, 4, 5, 6, 7, 8, 10] rfl) h
    · replace h := h.1 c_62
      refine lv_iconst hx hb dX1_draws_253 kc_1 ?_
      refine lv_goto (tgt := 258) hx hb dX1_draws_254 (by decide) ?_
      exact C258 _ K149 _ K161 _ _ _ _ _ _ _ _ _ _ _ hV hS (lv_sub hl [1, 2, 3, 4, 5, 6, 7, 8, 10] rfl) h
  have C230 : ∀ (k149 : Int32 → Int32 → Int32 → Int32 → VS → Prop) (K149 : (∀ (x4 : Int32) (x5 : Int32) (x6 : Int32) (x7 : Int32) (V : VS) (H : Heap) (locs : List Loc) (ls : Array Slot), HV D A V H → va_S A s.heap H locs → lv_has ls 12 [(0, .ref a0), (1, .int a1), (2, .int a2), (3, .int a3), (4, .int x4), (5, .int x5), (6, .int x6), (7, .int x7)] → k149 x4 x5 x6 x7 V → W p l e rX1_draws s m args below meth c H locs 0 0 (MQ below (va_Qi Post (vB D A) A) args s 0 0 A) (F0 m 149 ls []))) (k161 : Int32 → Int32 → Int32 → Int32 → Int32 → Int32 → VS → Prop) (K161 : (∀ (x4 : Int32) (x5 : Int32) (x6 : Int32) (x7 : Int32) (x8 : Int32) (x9 : Int32) (V : VS) (H : Heap) (locs : List Loc) (ls : Array Slot), HV D A V H → va_S A s.heap H locs → lv_has ls 12 [(0, .ref a0), (1, .int a1), (2, .int a2), (3, .int a3), (4, .int x4), (5, .int x5), (6, .int x6), (7, .int x7), (8, .int x8), (9, .int x9)] → k161 x4 x5 x6 x7 x8 x9 V → W p l e rX1_draws s m args below meth c H locs 0 0 (MQ below (va_Qi Post (vB D A) A) args s 0 0 A) (F0 m 161 ls []))), ∀ (x4 : Int32) (x5 : Int32) (x6 : Int32) (x7 : Int32) (x8 : Int32) (x9 : Int32) (x10 : Option Nat) (V : VS) (H : Heap) (locs : List Loc) (ls : Array Slot), HV D A V H → va_S A s.heap H locs → lv_has ls 12 [(0, .ref a0), (1, .int a1), (2, .int a2), (3, .int a3), (4, .int x4), (5, .int x5), (6, .int x6), (7, .int x7), (8, .int x8), (9, .int x9), (10, va_rf x10)] → vX1_draws_c230 cA a0 a1 a2 a3 k149 k161 Post x4 x5 x6 x7 x8 x9 x10 V → W p l e rX1_draws s m args below meth c H locs 0 0 (MQ below (va_Qi Post (vB D A) A) args s 0 0 A) (F0 m 230 ls []) := by
    intro k149 K149 k161 K161
    intro x4 x5 x6 x7 x8 x9 x10 V H locs ls hV hS hl h
    unfold vX1_draws_c230 at h
    refine lv_aload_n hx hb dX1_draws_230 rfl (lv_at hl 0 rfl) ?_
    refine lv_aloadQ hx hb dX1_draws_231 (lv_at hl 10 rfl) ?_
    obtain ⟨n_53, z_n_53, h9⟩ := bO_e h
    clear h; subst z_n_53; have h := h9; clear h9
    obtain ⟨g_54, e_55, h⟩ := bO_e h
    refine vg_i S hK hV fX1_141 e_55 dX1_draws_233 ?_
    obtain ⟨o_58, e_59, h⟩ := bO_e h
    refine vk_i (vr_V (As := [.int g_54]) (rest := []) S hK hG hA hV hS e_59 rfl (mvX1_next l a0 g_54 V _ h) (cwV 1 S.2.2.2.2 (lw_V q1277 q1279 qs55 q139 q1280) rfl rfl rfl cdX1_next ⟨Nat.le_of_ble_eq_true rfl, Nat.le_of_ble_eq_true rfl⟩) rfl hl.1 (Nat.le_of_ble_eq_true rfl) dX1_draws_236 ⟨Nat.le_refl _, Nat.le_refl _⟩) hS (fun r_56 V_57 H locs h hV hS => ?_)
    exact C239 _ K149 _ K161 _ _ _ _ _ _ _ _ _ _ _ _ hV hS (lv_sub hl [0, 1, 2, 3, 4, 5, 6, 7, 8, 9, 10] rfl) h
  have L161 : ∀ (k149 : Int32 → Int32 → Int32 → Int32 → VS → Prop) (K149 : (∀ (x4 : Int32) (x5 : Int32) (x6 : Int32) (x7 : Int32) (V : VS) (H : Heap) (locs : List Loc) (ls : Array Slot), HV D A V H → va_S A s.heap H locs → lv_has ls 12 [(0, .ref a0), (1, .int a1), (2, .int a2), (3, .int a3), (4, .int x4), (5, .int x5), (6, .int x6), (7, .int x7)] → k149 x4 x5 x6 x7 V → W p l e rX1_draws s m args below meth c H locs 0 0 (MQ below (va_Qi Post (vB D A) A) args s 0 0 A) (F0 m 149 ls []))), ∀ (n : Nat) (x4 : Int32) (x5 : Int32) (x6 : Int32) (x7 : Int32) (x8 : Int32) (x9 : Int32) (V : VS) (H : Heap) (locs : List Loc) (ls : Array Slot), HV D A V H → va_S A s.heap H locs → lv_has ls 12 [(0, .ref a0), (1, .int a1), (2, .int a2), (3, .int a3), (4, .int x4), (5, .int x5), (6, .int x6), (7, .int x7), (8, .int x8), (9, .int x9)] → vX1_draws_l161 cA a0 a1 a2 a3 k149 Post n x4 x5 x6 x7 x8 x9 V → W p l e rX1_draws s m args below meth c H locs 0 0 (MQ below (va_Qi Post (vB D A) A) args s 0 0 A) (F0 m 161 ls []) := by
    intro k149 K149
    intro n
    induction n with
    | zero => intro x4 x5 x6 x7 x8 x9 V H locs ls hV hS hl h; rw [vX1_draws_l161] at h; exact h.elim
    | succ n ih =>
      intro x4 x5 x6 x7 x8 x9 V H locs ls hV hS hl h
      rw [vX1_draws_l161] at h
      refine lv_iload hx hb dX1_draws_161 (lv_at hl 9 rfl) ?_
      refine lv_iload hx hb dX1_draws_163 (lv_at hl 4 rfl) ?_
      refine lv_icmp_ge (tgt := 267) hx hb dX1_draws_165 (by decide) (fun c_23 => ?_) (fun c_23 => ?_)
      · replace h := h.1 c_23
        refine lv_iload hx hb dX1_draws_267 (lv_at hl 6 rfl) ?_
        refine lv_iload hx hb dX1_draws_269 (lv_at hl 8 rfl) ?_
        refine lv_iload hx hb dX1_draws_271 (lv_at hl 5 rfl) ?_
        refine lv_icmp_lt (tgt := 280) hx hb dX1_draws_273 (by decide) (fun c_24 => ?_) (fun c_24 => ?_)
        · replace h := h.1 c_24
          refine lv_iconst hx hb dX1_draws_280 kc_0 ?_
          exact C281 _ K149 _ _ _ _ _ _ _ _ _ hV hS (lv_sub hl [0, 1, 2, 3, 4, 5, 7] rfl) h
        · replace h := h.2 c_24
          refine lv_iconst hx hb dX1_draws_276 kc_1 ?_
          refine lv_goto (tgt := 281) hx hb dX1_draws_277 (by decide) ?_
          exact C281 _ K149 _ _ _ _ _ _ _ _ _ hV hS (lv_sub hl [0, 1, 2, 3, 4, 5, 7] rfl) h
      · replace h := h.2 c_23
        refine lv_aload_n hx hb dX1_draws_168 rfl (lv_at hl 0 rfl) ?_
        obtain ⟨p_27, e_28, h⟩ := bO_e h
        refine vg_r S hK hV fX1_49 e_28 dX1_draws_169 ?_
        obtain ⟨n_29, z_n_29, h9⟩ := bO_e h
        clear h; subst z_n_29; have h := h9; clear h9
        obtain ⟨p_30, e_31, h⟩ := bO_e h
        refine vg_r S hK hV fX1_173 e_31 dX1_draws_172 ?_
        refine lv_aload_n hx hb dX1_draws_175 rfl (lv_at hl 0 rfl) ?_
        obtain ⟨p_32, e_33, h⟩ := bO_e h
        refine vg_r S hK hV fX1_64 e_33 dX1_draws_176 ?_
        refine lv_iload hx hb dX1_draws_179 (lv_at hl 9 rfl) ?_
        obtain ⟨n_34, z_n_34, h9⟩ := bO_e h
        clear h; subst z_n_34; have h := h9; clear h9
        obtain ⟨g_35, e_36, h⟩ := bO_e h
        refine vl_i S hK hV e_36 dX1_draws_181 ?_
        obtain ⟨n_37, z_n_37, h9⟩ := bO_e h
        clear h; subst z_n_37; have h := h9; clear h9
        obtain ⟨o_40, e_41, h⟩ := bO_e h
        refine vk_q (vr_V (As := [.int g_35]) (rest := []) S hK hG hA hV hS e_41 rfl (mvJ2_get l n_37 g_35 V _ h) (cwV 1 S.2.2.2.2 (lw_V q973 q608 q609 q144 q610) rfl rfl rfl cdJ2_get ⟨Nat.le_of_ble_eq_true rfl, Nat.le_of_ble_eq_true rfl⟩) rfl hl.1 (Nat.le_of_ble_eq_true rfl) dX1_draws_182 ⟨Nat.le_refl _, Nat.le_refl _⟩) hS (fun p_38 V_39 H locs h hV hS => ?_)
        obtain ⟨n_42, z_n_42, h9⟩ := bO_e h
        clear h; subst z_n_42; have h := h9; clear h9
        obtain ⟨o_43, e_44, h⟩ := bO_e h
        refine v_cast S hK hV e_44 ct_SaidSo_Line q983 dX1_draws_185 ?_
        obtain ⟨p_45, e_46, h⟩ := bO_e h
        refine vg_r S hK hV fX1_334 e_46 dX1_draws_188 ?_
        refine lv_astoreQ (r := p_45) (lv' := [(10, va_rf p_45), (0, .ref a0), (1, .int a1), (2, .int a2), (3, .int a3), (4, .int x4), (5, .int x5), (6, .int x6), (7, .int x7), (8, .int x8), (9, .int x9)]) hx hb dX1_draws_191 hl (by decide) rfl (fun ls hl => ?_)
        refine lv_aload_n hx hb dX1_draws_193 rfl (lv_at hl 1 rfl) ?_
        obtain ⟨p_47, e_48, h⟩ := bO_e h
        refine vg_r S hK hV fX1_70 e_48 dX1_draws_194 ?_
        refine lv_iload hx hb dX1_draws_197 (lv_at hl 10 rfl) ?_
        obtain ⟨n_49, z_n_49, h9⟩ := bO_e h
        clear h; subst z_n_49; have h := h9; clear h9
        obtain ⟨g_50, e_51, h⟩ := bO_e h
        refine vl_i S hK hV e_51 dX1_draws_199 ?_
        refine lv_iconst hx hb dX1_draws_200 kc_m1 ?_
        refine lv_icmp_eq (tgt := 230) hx hb dX1_draws_201 (by decide) (fun c_52 => ?_) (fun c_52 => ?_)
        · replace h := h.1 c_52
          exact C230 _ K149 _ ih _ _ _ _ _ _ _ _ _ _ _ hV hS (lv_sub hl [1, 2, 3, 4, 5, 6, 7, 8, 9, 10, 0] rfl) h
        · replace h := h.2 c_52
          refine lv_aload_n hx hb dX1_draws_204 rfl (lv_at hl 1 rfl) ?_
          refine lv_bipush hx hb dX1_draws_205 kb_100 ?_
          obtain ⟨o_67, e_68, h⟩ := bO_e h
          refine vk_i (vr_V (As := [.int (100 : Int32)]) (rest := []) S hK hG hA hV hS e_68 rfl (mvX1_next l a0 (100 : Int32) V_39 _ h) (cwV 1 S.2.2.2.2 (lw_V q1277 q1279 qs55 q139 q1280) rfl rfl rfl cdX1_next ⟨Nat.le_of_ble_eq_true rfl, Nat.le_of_ble_eq_true rfl⟩) rfl hl.1 (Nat.le_of_ble_eq_true rfl) dX1_draws_207 ⟨Nat.le_refl _, Nat.le_refl _⟩) hS (fun r_65 V_66 H locs h hV hS => ?_)
          refine lv_aload_n hx hb dX1_draws_210 rfl (lv_at hl 1 rfl) ?_
          obtain ⟨p_69, e_70, h⟩ := bO_e h
          refine vg_r S hK hV fX1_67 e_70 dX1_draws_211 ?_
          refine lv_iload hx hb dX1_draws_214 (lv_at hl 10 rfl) ?_
          obtain ⟨n_71, z_n_71, h9⟩ := bO_e h
          clear h; subst z_n_71; have h := h9; clear h9
          obtain ⟨g_72, e_73, h⟩ := bO_e h
          refine vl_i S hK hV e_73 dX1_draws_216 ?_
          refine lv_icmp_ge (tgt := 230) hx hb dX1_draws_217 (by decide) (fun c_74 => ?_) (fun c_74 => ?_)
          · replace h := h.1 c_74
            exact C230 _ K149 _ ih _ _ _ _ _ _ _ _ _ _ _ hV hS (lv_sub hl [1, 2, 3, 4, 5, 6, 7, 8, 9, 10, 0] rfl) h
          · replace h := h.2 c_74
            refine lv_aload_n hx hb dX1_draws_220 rfl (lv_at hl 1 rfl) ?_
            obtain ⟨p_75, e_76, h⟩ := bO_e h
            refine vg_r S hK hV fX1_70 e_76 dX1_draws_221 ?_
            refine lv_iload hx hb dX1_draws_224 (lv_at hl 10 rfl) ?_
            obtain ⟨n_77, z_n_77, h9⟩ := bO_e h
            clear h; subst z_n_77; have h := h9; clear h9
            obtain ⟨g_78, e_79, h⟩ := bO_e h
            refine vl_i S hK hV e_79 dX1_draws_226 ?_
            refine lv_goto (tgt := 239) hx hb dX1_draws_227 (by decide) ?_
            obtain ⟨n_80, z_n_80, h9⟩ := bO_e h
            clear h; subst z_n_80; have h := h9; clear h9
            exact C239 _ K149 _ ih _ _ _ _ _ _ _ _ _ _ _ _ hV hS (lv_sub hl [1, 2, 3, 4, 5, 6, 7, 8, 9, 10, 0] rfl) h
  have L149 : ∀ (n : Nat) (x4 : Int32) (x5 : Int32) (x6 : Int32) (x7 : Int32) (V : VS) (H : Heap) (locs : List Loc) (ls : Array Slot), HV D A V H → va_S A s.heap H locs → lv_has ls 12 [(0, .ref a0), (1, .int a1), (2, .int a2), (3, .int a3), (4, .int x4), (5, .int x5), (6, .int x6), (7, .int x7)] → vX1_draws_l149 cA a0 a1 a2 a3 Post n x4 x5 x6 x7 V → W p l e rX1_draws s m args below meth c H locs 0 0 (MQ below (va_Qi Post (vB D A) A) args s 0 0 A) (F0 m 149 ls []) := by
    intro n
    induction n with
    | zero => intro x4 x5 x6 x7 V H locs ls hV hS hl h; rw [vX1_draws_l149] at h; exact h.elim
    | succ n ih =>
      intro x4 x5 x6 x7 V H locs ls hV hS hl h
      rw [vX1_draws_l149] at h
      refine lv_iload hx hb dX1_draws_149 (lv_at hl 7 rfl) ?_
      refine lv_iload_n hx hb dX1_draws_151 rfl (lv_at hl 3 rfl) ?_
      refine lv_icmp_ge (tgt := 290) hx hb dX1_draws_152 (by decide) (fun c_22 => ?_) (fun c_22 => ?_)
      · replace h := h.1 c_22
        refine lv_iload hx hb dX1_draws_290 (lv_at hl 6 rfl) ?_
        exact ve_i S hlocks hret hV hS h rfl (Nat.le_refl _) (Nat.le_refl _) dX1_draws_292
      · replace h := h.2 c_22
        refine lv_iconst hx hb dX1_draws_155 kc_0 ?_
        refine lv_istore (lv' := [(8, .int (0 : Int32)), (0, .ref a0), (1, .int a1), (2, .int a2), (3, .int a3), (4, .int x4), (5, .int x5), (6, .int x6), (7, .int x7)]) hx hb dX1_draws_156 hl (by decide) rfl (fun ls hl => ?_)
        refine lv_iconst hx hb dX1_draws_158 kc_0 ?_
        refine lv_istore (lv' := [(9, .int (0 : Int32)), (8, .int (0 : Int32)), (0, .ref a0), (1, .int a1), (2, .int a2), (3, .int a3), (4, .int x4), (5, .int x5), (6, .int x6), (7, .int x7)]) hx hb dX1_draws_159 hl (by decide) rfl (fun ls hl => ?_)
        obtain ⟨f, h⟩ := h
        exact L161 _ ih f _ _ _ _ _ _ _ _ _ _ hV hS (lv_sub hl [2, 3, 4, 5, 6, 7, 8, 9, 1, 0] rfl) h
  have C135 : ∀ (k36 : Int32 → Int32 → Int32 → Int32 → VS → Prop) (K36 : (∀ (x4 : Int32) (x5 : Int32) (x6 : Int32) (x7 : Int32) (V : VS) (H : Heap) (locs : List Loc) (ls : Array Slot), HV D A V H → va_S A s.heap H locs → lv_has ls 12 [(0, .ref a0), (1, .int a1), (2, .int a2), (3, .int a3), (4, .int x4), (5, .int x5), (6, .int x6), (7, .int x7)] → k36 x4 x5 x6 x7 V → W p l e rX1_draws s m args below meth c H locs 0 0 (MQ below (va_Qi Post (vB D A) A) args s 0 0 A) (F0 m 36 ls []))), ∀ (x4 : Int32) (x5 : Int32) (x6 : Int32) (x7 : Int32) (V : VS) (H : Heap) (locs : List Loc) (ls : Array Slot), HV D A V H → va_S A s.heap H locs → lv_has ls 12 [(0, .ref a0), (1, .int a1), (2, .int a2), (3, .int a3), (4, .int x4), (5, .int x5), (6, .int x6), (7, .int x7)] → vX1_draws_c135 cA a0 a1 a2 a3 k36 Post x4 x5 x6 x7 V → W p l e rX1_draws s m args below meth c H locs 0 0 (MQ below (va_Qi Post (vB D A) A) args s 0 0 A) (F0 m 135 ls []) := by
    intro k36 K36
    intro x4 x5 x6 x7 V H locs ls hV hS hl h
    unfold vX1_draws_c135 at h
    obtain ⟨v_86, e_v_86⟩ : ∃ y : Int32, y = x7 + (1 : Int32) := ⟨_, rfl⟩
    replace h := h v_86 e_v_86
    refine lv_iinc (v := v_86) (lv' := [(7, .int v_86), (0, .ref a0), (1, .int a1), (2, .int a2), (3, .int a3), (4, .int x4), (5, .int x5), (6, .int x6)]) hx hb dX1_draws_135 hl (k := 7) rfl (by rw [kc_1, e_v_86]) (by decide) rfl (fun ls hl => ?_)
    refine lv_goto (tgt := 36) hx hb dX1_draws_138 (by decide) ?_
    exact K36 _ _ _ _ _ _ _ _ hV hS (lv_sub hl [1, 2, 3, 4, 5, 6, 7, 0] rfl) h
  have C132 : ∀ (k36 : Int32 → Int32 → Int32 → Int32 → VS → Prop) (K36 : (∀ (x4 : Int32) (x5 : Int32) (x6 : Int32) (x7 : Int32) (V : VS) (H : Heap) (locs : List Loc) (ls : Array Slot), HV D A V H → va_S A s.heap H locs → lv_has ls 12 [(0, .ref a0), (1, .int a1), (2, .int a2), (3, .int a3), (4, .int x4), (5, .int x5), (6, .int x6), (7, .int x7)] → k36 x4 x5 x6 x7 V → W p l e rX1_draws s m args below meth c H locs 0 0 (MQ below (va_Qi Post (vB D A) A) args s 0 0 A) (F0 m 36 ls []))), ∀ (x4 : Int32) (x6 : Int32) (x7 : Int32) (t0 : Int32) (t1 : Int32) (V : VS) (H : Heap) (locs : List Loc) (ls : Array Slot), HV D A V H → va_S A s.heap H locs → lv_has ls 12 [(0, .ref a0), (1, .int a1), (2, .int a2), (3, .int a3), (4, .int x4), (6, .int x6), (7, .int x7)] → vX1_draws_c132 cA a0 a1 a2 a3 k36 Post x4 x6 x7 t0 t1 V → W p l e rX1_draws s m args below meth c H locs 0 0 (MQ below (va_Qi Post (vB D A) A) args s 0 0 A) (F0 m 132 ls [.int t0, .int t1]) := by
    intro k36 K36
    intro x4 x6 x7 t0 t1 V H locs ls hV hS hl h
    unfold vX1_draws_c132 at h
    refine lv_iadd hx hb dX1_draws_132 ?_
    refine lv_topi (fun v_121 e_v_121 => ?_)
    replace h := h v_121 e_v_121
    refine lv_istore (lv' := [(5, .int v_121), (0, .ref a0), (1, .int a1), (2, .int a2), (3, .int a3), (4, .int x4), (6, .int x6), (7, .int x7)]) hx hb dX1_draws_133 hl (by decide) rfl (fun ls hl => ?_)
    exact C135 _ K36 _ _ _ _ _ _ _ _ hV hS (lv_sub hl [1, 2, 3, 4, 5, 0, 6, 7] rfl) h
  have L36 : ∀ (n : Nat) (x4 : Int32) (x5 : Int32) (x6 : Int32) (x7 : Int32) (V : VS) (H : Heap) (locs : List Loc) (ls : Array Slot), HV D A V H → va_S A s.heap H locs → lv_has ls 12 [(0, .ref a0), (1, .int a1), (2, .int a2), (3, .int a3), (4, .int x4), (5, .int x5), (6, .int x6), (7, .int x7)] → vX1_draws_l36 cA a0 a1 a2 a3 Post n x4 x5 x6 x7 V → W p l e rX1_draws s m args below meth c H locs 0 0 (MQ below (va_Qi Post (vB D A) A) args s 0 0 A) (F0 m 36 ls []) := by
    intro n
    induction n with
    | zero => intro x4 x5 x6 x7 V H locs ls hV hS hl h; rw [vX1_draws_l36] at h; exact h.elim
    | succ n ih =>
      intro x4 x5 x6 x7 V H locs ls hV hS hl h
      rw [vX1_draws_l36] at h
      refine lv_iload hx hb dX1_draws_36 (lv_at hl 7 rfl) ?_
      refine lv_aload_n hx hb dX1_draws_38 rfl (lv_at hl 0 rfl) ?_
      obtain ⟨p_9, e_10, h⟩ := bO_e h
      refine vg_r S hK hV fX1_49 e_10 dX1_draws_39 ?_
      obtain ⟨n_11, z_n_11, h9⟩ := bO_e h
      clear h; subst z_n_11; have h := h9; clear h9
      obtain ⟨p_12, e_13, h⟩ := bO_e h
      refine vg_r S hK hV fX1_173 e_13 dX1_draws_42 ?_
      obtain ⟨n_14, z_n_14, h9⟩ := bO_e h
      clear h; subst z_n_14; have h := h9; clear h9
      obtain ⟨o_17, e_18, h⟩ := bO_e h
      refine vk_i (vr_V (As := []) (rest := [.int x7]) S hK hG hA hV hS e_18 rfl (mvJ2_size l n_14 V _ h) (cwV 0 S.2.2.2.2 (lw_V q972 q591 q592 q144 q593) rfl rfl rfl cdJ2_size ⟨Nat.le_of_ble_eq_true rfl, Nat.le_of_ble_eq_true rfl⟩) rfl hl.1 (Nat.le_of_ble_eq_true rfl) dX1_draws_45 ⟨Nat.le_refl _, Nat.le_refl _⟩) hS (fun r_15 V_16 H locs h hV hS => ?_)
      refine lv_icmp_ge (tgt := 141) hx hb dX1_draws_48 (by decide) (fun c_19 => ?_) (fun c_19 => ?_)
      · replace h := h.1 c_19
        refine lv_aload_n hx hb dX1_draws_141 rfl (lv_at hl 0 rfl) ?_
        refine lv_iload_n hx hb dX1_draws_142 rfl (lv_at hl 2 rfl) ?_
        obtain ⟨V_20, e_21, h⟩ := bO_e h
        refine vp_v (v := .int a2) S hK hV hS fX1_371 (Or.inl rfl) rfl rfl e_21 dX1_draws_143 (fun H locs hV hS => ?_)
        refine lv_iconst hx hb dX1_draws_146 kc_0 ?_
        refine lv_istore (lv' := [(7, .int (0 : Int32)), (0, .ref a0), (1, .int a1), (2, .int a2), (3, .int a3), (4, .int x4), (5, .int x5), (6, .int x6)]) hx hb dX1_draws_147 hl (by decide) rfl (fun ls hl => ?_)
        obtain ⟨f, h⟩ := h
        exact L149 f _ _ _ _ _ _ _ _ hV hS (lv_sub hl [1, 2, 3, 4, 5, 6, 7, 0] rfl) h
      · replace h := h.2 c_19
        refine lv_aload_n hx hb dX1_draws_51 rfl (lv_at hl 0 rfl) ?_
        refine lv_iload hx hb dX1_draws_52 (lv_at hl 7 rfl) ?_
        refine lv_iload_n hx hb dX1_draws_54 rfl (lv_at hl 1 rfl) ?_
        refine lv_iconst hx hb dX1_draws_55 kc_m1 ?_
        obtain ⟨o_83, e_84, h⟩ := bO_e h
        refine vk_q (vr_V (As := [.int x7, .int a1, .int (-1 : Int32)]) (rest := []) S hK hG hA hV hS e_84 rfl (mvX1_word_2 l a0 x7 a1 (-1 : Int32) V_16 _ h) (cwV 3 S.2.2.2.2 (lw_V q1048 q1050 qs38 q139 q1051) rfl rfl rfl cdX1_word_2 ⟨Nat.le_of_ble_eq_true rfl, Nat.le_of_ble_eq_true rfl⟩) rfl hl.1 (Nat.le_of_ble_eq_true rfl) dX1_draws_56 ⟨Nat.le_refl _, Nat.le_refl _⟩) hS (fun p_81 V_82 H locs h hV hS => ?_)
        refine lv_astoreQ (r := p_81) (lv' := [(8, va_rf p_81), (0, .ref a0), (1, .int a1), (2, .int a2), (3, .int a3), (4, .int x4), (5, .int x5), (6, .int x6), (7, .int x7)]) hx hb dX1_draws_59 hl (by decide) rfl (fun ls hl => ?_)
        refine lv_aloadQ hx hb dX1_draws_61 (lv_at hl 0 rfl) ?_
        rcases p_81 with _ | n_85
        · replace h := h.1 rfl
          refine lv_ifnullN (tgt := 135) hx hb dX1_draws_63 (by decide) ?_
          exact C135 _ ih _ _ _ _ _ _ _ _ hV hS (lv_sub hl [1, 2, 3, 4, 5, 6, 7, 8] rfl) h
        · replace h := h.2 n_85 rfl
          refine lv_ifnull hx hb dX1_draws_63 ?_
          refine lv_aload_n hx hb dX1_draws_66 rfl (lv_at hl 1 rfl) ?_
          refine lv_iload hx hb dX1_draws_67 (lv_at hl 8 rfl) ?_
          refine lv_iconst hx hb dX1_draws_69 kc_0 ?_
          obtain ⟨o_89, e_90, h⟩ := bO_e h
          refine vk_i (vr_V (As := [.int x7, .int (0 : Int32)]) (rest := []) S hK hG hA hV hS e_90 rfl (mvX1_isFirst l a0 x7 (0 : Int32) V_82 _ h) (cwV 2 S.2.2.2.2 (lw_V q1044 q1046 qs37 q139 q1047) rfl rfl rfl cdX1_isFirst ⟨Nat.le_of_ble_eq_true rfl, Nat.le_of_ble_eq_true rfl⟩) rfl hl.1 (Nat.le_of_ble_eq_true rfl) dX1_draws_70 ⟨Nat.le_refl _, Nat.le_refl _⟩) hS (fun r_87 V_88 H locs h hV hS => ?_)
          refine lv_if_ne (tgt := 79) hx hb dX1_draws_73 (by decide) (fun c_91 => ?_) (fun c_91 => ?_)
          · replace h := h.2 c_91
            refine lv_aload_n hx hb dX1_draws_79 rfl (lv_at hl 1 rfl) ?_
            obtain ⟨p_92, e_93, h⟩ := bO_e h
            refine vg_r S hK hV fX1_64 e_93 dX1_draws_80 ?_
            refine lv_iload hx hb dX1_draws_83 (lv_at hl 5 rfl) ?_
            refine lv_iload hx hb dX1_draws_85 (lv_at hl 8 rfl) ?_
            obtain ⟨n_94, z_n_94, h9⟩ := bO_e h
            clear h; subst z_n_94; have h := h9; clear h9
            obtain ⟨V_95, e_96, h⟩ := bO_e h
            refine vs_i S hK hV hS e_96 dX1_draws_87 (fun H locs hV hS => ?_)
            refine lv_aload_n hx hb dX1_draws_88 rfl (lv_at hl 1 rfl) ?_
            obtain ⟨p_97, e_98, h⟩ := bO_e h
            refine vg_r S hK hV fX1_67 e_98 dX1_draws_89 ?_
            refine lv_iload hx hb dX1_draws_92 (lv_at hl 5 rfl) ?_
            refine lv_aload_n hx hb dX1_draws_94 rfl (lv_at hl 1 rfl) ?_
            refine lv_iload hx hb dX1_draws_95 (lv_at hl 8 rfl) ?_
            obtain ⟨o_101, e_102, h⟩ := bO_e h
            refine vy_i (vr_VH (As := [.int x7]) (rest := [.int x4, va_rf p_97]) S hK hG hA hV hS e_102 rfl (mvX1_lawAt l a0 x7 V_95 _ _ h) (vx_cwVW 1 S.2.2.2.2 (lw_VW q1208 q1210 qs51 q139 q1211) rfl rfl rfl cdX1_lawAt ⟨Nat.le_of_ble_eq_true rfl, Nat.le_of_ble_eq_true rfl⟩) rfl hl.1 (by cases p_97 <;> exact Nat.le_of_ble_eq_true rfl) dX1_draws_97 ⟨Nat.le_refl _, Nat.le_refl _⟩) hS (fun k q V1 H1 l1 ce h => h.elim) (fun r_99 V_100 H locs h hV hS => ?_)
            obtain ⟨n_103, z_n_103, h9⟩ := bO_e h
            clear h; subst z_n_103; have h := h9; clear h9
            obtain ⟨V_104, e_105, h⟩ := bO_e h
            refine vs_i S hK hV hS e_105 dX1_draws_100 (fun H locs hV hS => ?_)
            refine lv_aload_n hx hb dX1_draws_101 rfl (lv_at hl 1 rfl) ?_
            obtain ⟨p_106, e_107, h⟩ := bO_e h
            refine vg_r S hK hV fX1_70 e_107 dX1_draws_102 ?_
            refine lv_iload hx hb dX1_draws_105 (lv_at hl 5 rfl) ?_
            refine lv_aload_n hx hb dX1_draws_107 rfl (lv_at hl 1 rfl) ?_
            refine lv_iload hx hb dX1_draws_108 (lv_at hl 8 rfl) ?_
            obtain ⟨o_110, e_111, h⟩ := bO_e h
            refine vk_i (vr_V (As := [.int x7]) (rest := [.int x4, va_rf p_106]) S hK hG hA hV hS e_111 rfl (mvX1_putAhead l a0 x7 V_104 _ h) (cwV 1 S.2.2.2.2 (lw_V q1273 q1275 qs54 q139 q1276) rfl rfl rfl cdX1_putAhead ⟨Nat.le_of_ble_eq_true rfl, Nat.le_of_ble_eq_true rfl⟩) rfl hl.1 (by cases p_106 <;> exact Nat.le_of_ble_eq_true rfl) dX1_draws_110 ⟨Nat.le_refl _, Nat.le_refl _⟩) hS (fun r_108 V_109 H locs h hV hS => ?_)
            obtain ⟨n_112, z_n_112, h9⟩ := bO_e h
            clear h; subst z_n_112; have h := h9; clear h9
            obtain ⟨V_113, e_114, h⟩ := bO_e h
            refine vs_i S hK hV hS e_114 dX1_draws_113 (fun H locs hV hS => ?_)
            obtain ⟨v_115, e_v_115⟩ : ∃ y : Int32, y = x4 + (1 : Int32) := ⟨_, rfl⟩
            replace h := h v_115 e_v_115
            refine lv_iinc (v := v_115) (lv' := [(4, .int v_115), (8, .ref n_85), (0, .ref a0), (1, .int a1), (2, .int a2), (3, .int a3), (5, .int x5), (6, .int x6), (7, .int x7)]) hx hb dX1_draws_114 hl (k := 5) rfl (by rw [kc_1, e_v_115]) (by decide) rfl (fun ls hl => ?_)
            refine lv_iload hx hb dX1_draws_117 (lv_at hl 6 rfl) ?_
            refine lv_aload hx hb dX1_draws_119 (lv_at hl 1 rfl) ?_
            obtain ⟨o_118, e_119, h⟩ := bO_e h
            refine vk_i (vr_V (As := []) (rest := [.int x5]) S hK hG hA hV hS e_119 rfl (mvX9_isRight l n_85 V_113 _ h) (cwV 0 S.2.2.2.2 (lw_V q1040 q1041 q1042 q162 q1043) rfl rfl rfl cdX9_isRight ⟨Nat.le_of_ble_eq_true rfl, Nat.le_of_ble_eq_true rfl⟩) rfl hl.1 (Nat.le_of_ble_eq_true rfl) dX1_draws_121 ⟨Nat.le_refl _, Nat.le_refl _⟩) hS (fun r_116 V_117 H locs h hV hS => ?_)
            refine lv_if_eq (tgt := 131) hx hb dX1_draws_124 (by decide) (fun c_120 => ?_) (fun c_120 => ?_)
            · replace h := h.1 c_120
              refine lv_iconst hx hb dX1_draws_131 kc_0 ?_
              exact C132 _ ih _ _ _ _ _ _ _ _ _ hV hS (lv_sub hl [2, 3, 4, 5, 0, 7, 8] rfl) h
            · replace h := h.2 c_120
              refine lv_iconst hx hb dX1_draws_127 kc_1 ?_
              refine lv_goto (tgt := 132) hx hb dX1_draws_128 (by decide) ?_
              exact C132 _ ih _ _ _ _ _ _ _ _ _ hV hS (lv_sub hl [2, 3, 4, 5, 0, 7, 8] rfl) h
          · replace h := h.1 c_91
            refine lv_goto (tgt := 135) hx hb dX1_draws_76 (by decide) ?_
            exact C135 _ ih _ _ _ _ _ _ _ _ hV hS (lv_sub hl [1, 2, 3, 4, 5, 6, 7, 8] rfl) h
  unfold vX1_draws at h
  refine lv_aload_n hx hb dX1_draws_0 rfl (lv_at hl 0 rfl) ?_
  refine lv_iload_n hx hb dX1_draws_1 rfl (lv_at hl 1 rfl) ?_
  obtain ⟨o_3, e_4, h⟩ := bO_e h
  refine vk_i (vr_V (As := [.int a1]) (rest := []) S hK hG hA hV hS e_4 rfl (mvX1_isTeller l a0 a1 V _ h) (cwV 1 S.2.2.2.2 (lw_V q968 q970 qs31 q139 q971) rfl rfl rfl cdX1_isTeller ⟨Nat.le_of_ble_eq_true rfl, Nat.le_of_ble_eq_true rfl⟩) rfl hl.1 (Nat.le_of_ble_eq_true rfl) dX1_draws_2 ⟨Nat.le_refl _, Nat.le_refl _⟩) hS (fun r_1 V_2 H locs h hV hS => ?_)
  refine lv_if_eq (tgt := 22) hx hb dX1_draws_5 (by decide) (fun c_5 => ?_) (fun c_5 => ?_)
  · replace h := h.1 c_5
    refine lv_iconst hx hb dX1_draws_22 kc_m1 ?_
    exact ve_i S hlocks hret hV hS h rfl (Nat.le_refl _) (Nat.le_refl _) dX1_draws_23
  · replace h := h.2 c_5
    refine lv_iload_n hx hb dX1_draws_8 rfl (lv_at hl 2 rfl) ?_
    refine lv_if_lt (tgt := 22) hx hb dX1_draws_9 (by decide) (fun c_6 => ?_) (fun c_6 => ?_)
    · replace h := h.1 c_6
      refine lv_iconst hx hb dX1_draws_22 kc_m1 ?_
      exact ve_i S hlocks hret hV hS h rfl (Nat.le_refl _) (Nat.le_refl _) dX1_draws_23
    · replace h := h.2 c_6
      refine lv_iload_n hx hb dX1_draws_12 rfl (lv_at hl 3 rfl) ?_
      refine lv_iconst hx hb dX1_draws_13 kc_1 ?_
      refine lv_bipush hx hb dX1_draws_14 kb_99 ?_
      refine sc_i S (As := [.int a3, .int (1 : Int32), .int (99 : Int32)]) (rest := []) (mt1_in l a3 (1 : Int32) (99 : Int32) _ h) (va_cwS 3 S.2.2.2.2 (lw_S q367 q368 q139 q369) rfl rfl rfl cdX1_in ⟨Nat.le_of_ble_eq_true rfl, Nat.le_of_ble_eq_true rfl⟩) rfl rfl hl.1 (Nat.le_of_ble_eq_true rfl) dX1_draws_16 ⟨Nat.le_refl _, Nat.le_refl _⟩ (fun r_7 h => ?_)
      refine lv_if_ne (tgt := 24) hx hb dX1_draws_19 (by decide) (fun c_8 => ?_) (fun c_8 => ?_)
      · replace h := h.2 c_8
        refine lv_iconst hx hb dX1_draws_24 kc_0 ?_
        refine lv_istore (lv' := [(4, .int (0 : Int32)), (0, .ref a0), (1, .int a1), (2, .int a2), (3, .int a3)]) hx hb dX1_draws_25 hl (by decide) rfl (fun ls hl => ?_)
        refine lv_iconst hx hb dX1_draws_27 kc_0 ?_
        refine lv_istore (lv' := [(5, .int (0 : Int32)), (4, .int (0 : Int32)), (0, .ref a0), (1, .int a1), (2, .int a2), (3, .int a3)]) hx hb dX1_draws_28 hl (by decide) rfl (fun ls hl => ?_)
        refine lv_iconst hx hb dX1_draws_30 kc_0 ?_
        refine lv_istore (lv' := [(6, .int (0 : Int32)), (5, .int (0 : Int32)), (4, .int (0 : Int32)), (0, .ref a0), (1, .int a1), (2, .int a2), (3, .int a3)]) hx hb dX1_draws_31 hl (by decide) rfl (fun ls hl => ?_)
        refine lv_iconst hx hb dX1_draws_33 kc_0 ?_
        refine lv_istore (lv' := [(7, .int (0 : Int32)), (6, .int (0 : Int32)), (5, .int (0 : Int32)), (4, .int (0 : Int32)), (0, .ref a0), (1, .int a1), (2, .int a2), (3, .int a3)]) hx hb dX1_draws_34 hl (by decide) rfl (fun ls hl => ?_)
        obtain ⟨f, h⟩ := h
        exact L36 f _ _ _ _ _ _ _ _ hV hS (lv_sub hl [4, 5, 6, 7, 3, 2, 1, 0] rfl) h
      · replace h := h.1 c_8
        refine lv_iconst hx hb dX1_draws_22 kc_m1 ?_
        exact ve_i S hlocks hret hV hS h rfl (Nat.le_refl _) (Nat.le_refl _) dX1_draws_23
def vX1_countWords_c98 (cA : Nat → ClassId) (a0 : Nat) (a1 : Int32) (a2 : Int32) (k2 : Int32 → VS → Prop) (Post : VS → Prop) (x3 : Int32) (V : VS) : Prop := ∀ v_17 : Int32, v_17 = x3 + (1 : Int32) → k2 v_17 V
def vX1_countWords_c96 (cA : Nat → ClassId) (a0 : Nat) (a1 : Int32) (a2 : Int32) (k2 : Int32 → VS → Prop) (Post : VS → Prop) (x3 : Int32) (t0 : Int64) (t1 : Int64) (t2 : Int32) (t3 : Nat) (V : VS) : Prop := bO (tJ V (cA 2) t3 t2 (t1 + t0)) (fun V_50 => vX1_countWords_c98 cA a0 a1 a2 k2 Post x3 V_50)
def vX1_countWords_c70 (cA : Nat → ClassId) (a0 : Nat) (a1 : Int32) (a2 : Int32) (k2 : Int32 → VS → Prop) (Post : VS → Prop) (x3 : Int32) (x4 : Nat) (t0 : Int32) (t1 : Option Nat) (V : VS) : Prop := bO t1 (fun n_35 => bO (lJ V (cA 2) n_35 t0) (fun g_36 => bO (tJ V (cA 2) n_35 t0 (g_36 + (1 : Int64))) (fun V_38 => bO (gR V_38 [1] a0 12) (fun p_40 => bO p_40 (fun n_42 => bO (lJ V_38 (cA 2) n_42 (7 : Int32)) (fun g_43 => bO (vO V_38 [7] x4) (fun o_47 => vX9_isNew cA x4 V_38 (fun r_45 V_46 => (r_45 = 0 → (vX1_countWords_c96 cA a0 a1 a2 k2 Post x3 (0 : Int64) g_43 (7 : Int32) n_42 V_46)) ∧ (¬ (r_45 = 0) → (vX1_countWords_c96 cA a0 a1 a2 k2 Post x3 (1 : Int64) g_43 (7 : Int32) n_42 V_46))))))))))
def vX1_countWords_l2 (cA : Nat → ClassId) (a0 : Nat) (a1 : Int32) (a2 : Int32) (Post : VS → Prop) : Nat → Int32 → VS → Prop
  | 0, _, _ => False
  | n + 1, x3, V => bO (gR V [1] a0 11) (fun p_1 => bO p_1 (fun n_3 => bO (gR V [3] n_3 2) (fun p_4 => bO p_4 (fun n_6 => bO (vO V [14] n_6) (fun o_9 => vJ2_size cA n_6 V (fun r_7 V_8 => (r_7 ≤ x3 → (Post V_8)) ∧ (¬ (r_7 ≤ x3) → (bO (vO V_8 [1] a0) (fun o_14 => vX1_word_2 cA a0 x3 a1 (-1 : Int32) V_8 (fun p_12 V_13 => (p_12 = none → (vX1_countWords_c98 cA a0 a1 a2 (vX1_countWords_l2 cA a0 a1 a2 Post n) Post x3 V_13)) ∧ (∀ n_16 : Nat, p_12 = some n_16 → (bO (vO V_13 [1] a0) (fun o_20 => vX1_counts cA a0 n_16 a2 V_13 (fun r_18 V_19 => (r_18 = 0 → (vX1_countWords_c98 cA a0 a1 a2 (vX1_countWords_l2 cA a0 a1 a2 Post n) Post x3 V_19)) ∧ (¬ (r_18 = 0) → (bO (vO V_19 [1] a0) (fun o_25 => vX1_isFirst cA a0 x3 a2 V_19 (fun r_23 V_24 => (r_23 = 0 → (vX1_countWords_c98 cA a0 a1 a2 (vX1_countWords_l2 cA a0 a1 a2 Post n) Post x3 V_24)) ∧ (¬ (r_23 = 0) → (bO (gR V_24 [1] a0 12) (fun p_28 => bO (vO V_24 [7] n_16) (fun o_32 => vX9_isRight cA n_16 V_24 (fun r_30 V_31 => (r_30 = 0 → (vX1_countWords_c70 cA a0 a1 a2 (vX1_countWords_l2 cA a0 a1 a2 Post n) Post x3 n_16 (6 : Int32) p_28 V_31)) ∧ (¬ (r_30 = 0) → (vX1_countWords_c70 cA a0 a1 a2 (vX1_countWords_l2 cA a0 a1 a2 Post n) Post x3 n_16 (5 : Int32) p_28 V_31)))))))))))))))))))))))))
def vX1_countWords (cA : Nat → ClassId) (a0 : Nat) (a1 : Int32) (a2 : Int32) (V : VS) (Post : VS → Prop) : Prop := ∃ f, vX1_countWords_l2 cA a0 a1 a2 Post f (0 : Int32) V
abbrev rX1_countWords : Room := { frames := 6, cells := 0, slots := 0, locals := 136 }
theorem cdX1_countWords : yX1_countWords.cls = RX1 ∧ yX1_countWords.cls ≠ "java/lang/invoke/MethodHandle" ∧ yX1_countWords.cls ≠ "java/lang/invoke/VarHandle" ∧ (parseMethodDescriptor yX1_countWords.desc).map (fun d => d.parameters.length) = some 2 := by decide +kernel
set_option maxHeartbeats 4000000 in
set_option maxRecDepth 100000 in
theorem mvX1_countWords (l : Launch) {D : va_G} {cA : Nat → ClassId} {A : Nat → Prop} (a0 : Nat) (a1 : Int32) (a2 : Int32) (V : VS) (Post : VS → Prop) (h : vX1_countWords cA a0 a1 a2 V Post) : Met l yX1_countWords (ws_ yX1_countWords cX1_countWords 5 none) rX1_countWords (vPc [.ref a0, .int a1, .int a2] D cA A V) (va_Qv Post (vB D A) A) 0 0 A := by
  refine vstM (own := RX1) (by decide) rfl (Nat.le_of_ble_eq_true rfl) ?_
  intro p e s m args below meth c ls X hret hV hS hl
  obtain ⟨S, hK, hG, hA, hnm, hlocks⟩ := X
  have hx := S.1
  have hb := S.2.1
  have hl : lv_has ls 5 [(0, .ref a0), (1, .int a1), (2, .int a2)] := hl
  have C98 : ∀ (k2 : Int32 → VS → Prop) (K2 : (∀ (x3 : Int32) (V : VS) (H : Heap) (locs : List Loc) (ls : Array Slot), HV D A V H → va_S A s.heap H locs → lv_has ls 5 [(0, .ref a0), (1, .int a1), (2, .int a2), (3, .int x3)] → k2 x3 V → W p l e rX1_countWords s m args below meth c H locs 0 0 (MQ below (va_Qv Post (vB D A) A) args s 0 0 A) (F0 m 2 ls []))), ∀ (x3 : Int32) (V : VS) (H : Heap) (locs : List Loc) (ls : Array Slot), HV D A V H → va_S A s.heap H locs → lv_has ls 5 [(0, .ref a0), (1, .int a1), (2, .int a2), (3, .int x3)] → vX1_countWords_c98 cA a0 a1 a2 k2 Post x3 V → W p l e rX1_countWords s m args below meth c H locs 0 0 (MQ below (va_Qv Post (vB D A) A) args s 0 0 A) (F0 m 98 ls []) := by
    intro k2 K2
    intro x3 V H locs ls hV hS hl h
    unfold vX1_countWords_c98 at h
    obtain ⟨v_17, e_v_17⟩ : ∃ y : Int32, y = x3 + (1 : Int32) := ⟨_, rfl⟩
    replace h := h v_17 e_v_17
    refine lv_iinc (v := v_17) (lv' := [(3, .int v_17), (0, .ref a0), (1, .int a1), (2, .int a2)]) hx hb dX1_countWords_98 hl (k := 3) rfl (by rw [kc_1, e_v_17]) (by decide) rfl (fun ls hl => ?_)
    refine lv_goto (tgt := 2) hx hb dX1_countWords_101 (by decide) ?_
    exact K2 _ _ _ _ _ hV hS (lv_sub hl [1, 2, 3, 0] rfl) h
  have C96 : ∀ (k2 : Int32 → VS → Prop) (K2 : (∀ (x3 : Int32) (V : VS) (H : Heap) (locs : List Loc) (ls : Array Slot), HV D A V H → va_S A s.heap H locs → lv_has ls 5 [(0, .ref a0), (1, .int a1), (2, .int a2), (3, .int x3)] → k2 x3 V → W p l e rX1_countWords s m args below meth c H locs 0 0 (MQ below (va_Qv Post (vB D A) A) args s 0 0 A) (F0 m 2 ls []))), ∀ (x3 : Int32) (t0 : Int64) (t1 : Int64) (t2 : Int32) (t3 : Nat) (V : VS) (H : Heap) (locs : List Loc) (ls : Array Slot), HV D A V H → va_S A s.heap H locs → lv_has ls 5 [(0, .ref a0), (1, .int a1), (2, .int a2), (3, .int x3)] → vX1_countWords_c96 cA a0 a1 a2 k2 Post x3 t0 t1 t2 t3 V → W p l e rX1_countWords s m args below meth c H locs 0 0 (MQ below (va_Qv Post (vB D A) A) args s 0 0 A) (F0 m 96 ls [.long t0, .long t1, .int t2, .ref t3]) := by
    intro k2 K2
    intro x3 t0 t1 t2 t3 V H locs ls hV hS hl h
    unfold vX1_countWords_c96 at h
    refine lv_ladd hx hb dX1_countWords_96 ?_
    obtain ⟨V_50, e_51, h⟩ := bO_e h
    refine vs_l S hK hV hS e_51 dX1_countWords_97 (fun H locs hV hS => ?_)
    exact C98 _ K2 _ _ _ _ _ hV hS (lv_sub hl [0, 1, 2, 3] rfl) h
  have C70 : ∀ (k2 : Int32 → VS → Prop) (K2 : (∀ (x3 : Int32) (V : VS) (H : Heap) (locs : List Loc) (ls : Array Slot), HV D A V H → va_S A s.heap H locs → lv_has ls 5 [(0, .ref a0), (1, .int a1), (2, .int a2), (3, .int x3)] → k2 x3 V → W p l e rX1_countWords s m args below meth c H locs 0 0 (MQ below (va_Qv Post (vB D A) A) args s 0 0 A) (F0 m 2 ls []))), ∀ (x3 : Int32) (x4 : Nat) (t0 : Int32) (t1 : Option Nat) (V : VS) (H : Heap) (locs : List Loc) (ls : Array Slot), HV D A V H → va_S A s.heap H locs → lv_has ls 5 [(0, .ref a0), (1, .int a1), (2, .int a2), (3, .int x3), (4, .ref x4)] → vX1_countWords_c70 cA a0 a1 a2 k2 Post x3 x4 t0 t1 V → W p l e rX1_countWords s m args below meth c H locs 0 0 (MQ below (va_Qv Post (vB D A) A) args s 0 0 A) (F0 m 70 ls [.int t0, va_rf t1]) := by
    intro k2 K2
    intro x3 x4 t0 t1 V H locs ls hV hS hl h
    unfold vX1_countWords_c70 at h
    obtain ⟨n_35, z_n_35, h9⟩ := bO_e h
    clear h; subst z_n_35; have h := h9; clear h9
    refine lv_dup2_11 hx hb dX1_countWords_70 rfl rfl ?_
    obtain ⟨g_36, e_37, h⟩ := bO_e h
    refine vl_l S hK hV e_37 dX1_countWords_71 ?_
    refine lv_lconst (v := 1) hx hb dX1_countWords_72 rfl ?_
    refine lv_ladd hx hb dX1_countWords_73 ?_
    obtain ⟨V_38, e_39, h⟩ := bO_e h
    refine vs_l S hK hV hS e_39 dX1_countWords_74 (fun H locs hV hS => ?_)
    refine lv_aload_n hx hb dX1_countWords_75 rfl (lv_at hl 0 rfl) ?_
    obtain ⟨p_40, e_41, h⟩ := bO_e h
    refine vg_r S hK hV fX1_53 e_41 dX1_countWords_76 ?_
    refine lv_bipush hx hb dX1_countWords_79 kb_7 ?_
    obtain ⟨n_42, z_n_42, h9⟩ := bO_e h
    clear h; subst z_n_42; have h := h9; clear h9
    refine lv_dup2_11 hx hb dX1_countWords_81 rfl rfl ?_
    obtain ⟨g_43, e_44, h⟩ := bO_e h
    refine vl_l S hK hV e_44 dX1_countWords_82 ?_
    refine lv_aload hx hb dX1_countWords_83 (lv_at hl 4 rfl) ?_
    obtain ⟨o_47, e_48, h⟩ := bO_e h
    refine vk_i (vr_V (As := []) (rest := [.long g_43, .int (7 : Int32), .ref n_42]) S hK hG hA hV hS e_48 rfl (mvX9_isNew l x4 V_38 _ h) (cwV 0 S.2.2.2.2 (lw_V q1098 q1099 q1100 q162 q1101) rfl rfl rfl cdX9_isNew ⟨Nat.le_of_ble_eq_true rfl, Nat.le_of_ble_eq_true rfl⟩) rfl hl.1 (Nat.le_of_ble_eq_true rfl) dX1_countWords_85 ⟨Nat.le_refl _, Nat.le_refl _⟩) hS (fun r_45 V_46 H locs h hV hS => ?_)
    refine lv_if_eq (tgt := 95) hx hb dX1_countWords_88 (by decide) (fun c_49 => ?_) (fun c_49 => ?_)
    · replace h := h.1 c_49
      refine lv_lconst (v := 0) hx hb dX1_countWords_95 rfl ?_
      exact C96 _ K2 _ _ _ _ _ _ _ _ _ hV hS (lv_sub hl [0, 1, 2, 3] rfl) h
    · replace h := h.2 c_49
      refine lv_lconst (v := 1) hx hb dX1_countWords_91 rfl ?_
      refine lv_goto (tgt := 96) hx hb dX1_countWords_92 (by decide) ?_
      exact C96 _ K2 _ _ _ _ _ _ _ _ _ hV hS (lv_sub hl [0, 1, 2, 3] rfl) h
  have L2 : ∀ (n : Nat) (x3 : Int32) (V : VS) (H : Heap) (locs : List Loc) (ls : Array Slot), HV D A V H → va_S A s.heap H locs → lv_has ls 5 [(0, .ref a0), (1, .int a1), (2, .int a2), (3, .int x3)] → vX1_countWords_l2 cA a0 a1 a2 Post n x3 V → W p l e rX1_countWords s m args below meth c H locs 0 0 (MQ below (va_Qv Post (vB D A) A) args s 0 0 A) (F0 m 2 ls []) := by
    intro n
    induction n with
    | zero => intro x3 V H locs ls hV hS hl h; rw [vX1_countWords_l2] at h; exact h.elim
    | succ n ih =>
      intro x3 V H locs ls hV hS hl h
      rw [vX1_countWords_l2] at h
      refine lv_iload_n hx hb dX1_countWords_2 rfl (lv_at hl 3 rfl) ?_
      refine lv_aload_n hx hb dX1_countWords_3 rfl (lv_at hl 0 rfl) ?_
      obtain ⟨p_1, e_2, h⟩ := bO_e h
      refine vg_r S hK hV fX1_49 e_2 dX1_countWords_4 ?_
      obtain ⟨n_3, z_n_3, h9⟩ := bO_e h
      clear h; subst z_n_3; have h := h9; clear h9
      obtain ⟨p_4, e_5, h⟩ := bO_e h
      refine vg_r S hK hV fX1_173 e_5 dX1_countWords_7 ?_
      obtain ⟨n_6, z_n_6, h9⟩ := bO_e h
      clear h; subst z_n_6; have h := h9; clear h9
      obtain ⟨o_9, e_10, h⟩ := bO_e h
      refine vk_i (vr_V (As := []) (rest := [.int x3]) S hK hG hA hV hS e_10 rfl (mvJ2_size l n_6 V _ h) (cwV 0 S.2.2.2.2 (lw_V q972 q591 q592 q144 q593) rfl rfl rfl cdJ2_size ⟨Nat.le_of_ble_eq_true rfl, Nat.le_of_ble_eq_true rfl⟩) rfl hl.1 (Nat.le_of_ble_eq_true rfl) dX1_countWords_10 ⟨Nat.le_refl _, Nat.le_refl _⟩) hS (fun r_7 V_8 H locs h hV hS => ?_)
      refine lv_icmp_ge (tgt := 104) hx hb dX1_countWords_13 (by decide) (fun c_11 => ?_) (fun c_11 => ?_)
      · replace h := h.1 c_11
        exact ve_v S hlocks hret hV hS h (Nat.le_refl _) (Nat.le_refl _) dX1_countWords_104
      · replace h := h.2 c_11
        refine lv_aload_n hx hb dX1_countWords_16 rfl (lv_at hl 0 rfl) ?_
        refine lv_iload_n hx hb dX1_countWords_17 rfl (lv_at hl 3 rfl) ?_
        refine lv_iload_n hx hb dX1_countWords_18 rfl (lv_at hl 1 rfl) ?_
        refine lv_iconst hx hb dX1_countWords_19 kc_m1 ?_
        obtain ⟨o_14, e_15, h⟩ := bO_e h
        refine vk_q (vr_V (As := [.int x3, .int a1, .int (-1 : Int32)]) (rest := []) S hK hG hA hV hS e_15 rfl (mvX1_word_2 l a0 x3 a1 (-1 : Int32) V_8 _ h) (cwV 3 S.2.2.2.2 (lw_V q1048 q1050 qs38 q139 q1051) rfl rfl rfl cdX1_word_2 ⟨Nat.le_of_ble_eq_true rfl, Nat.le_of_ble_eq_true rfl⟩) rfl hl.1 (Nat.le_of_ble_eq_true rfl) dX1_countWords_20 ⟨Nat.le_refl _, Nat.le_refl _⟩) hS (fun p_12 V_13 H locs h hV hS => ?_)
        refine lv_astoreQ (r := p_12) (lv' := [(4, va_rf p_12), (0, .ref a0), (1, .int a1), (2, .int a2), (3, .int x3)]) hx hb dX1_countWords_23 hl (by decide) rfl (fun ls hl => ?_)
        refine lv_aloadQ hx hb dX1_countWords_25 (lv_at hl 0 rfl) ?_
        rcases p_12 with _ | n_16
        · replace h := h.1 rfl
          refine lv_ifnullN (tgt := 98) hx hb dX1_countWords_27 (by decide) ?_
          exact C98 _ ih _ _ _ _ _ hV hS (lv_sub hl [1, 2, 3, 4] rfl) h
        · replace h := h.2 n_16 rfl
          refine lv_ifnull hx hb dX1_countWords_27 ?_
          refine lv_aload_n hx hb dX1_countWords_30 rfl (lv_at hl 1 rfl) ?_
          refine lv_aload hx hb dX1_countWords_31 (lv_at hl 0 rfl) ?_
          refine lv_iload_n hx hb dX1_countWords_33 rfl (lv_at hl 3 rfl) ?_
          obtain ⟨o_20, e_21, h⟩ := bO_e h
          refine vk_i (vr_V (As := [.ref n_16, .int a2]) (rest := []) S hK hG hA hV hS e_21 rfl (mvX1_counts l a0 n_16 a2 V_13 _ h) (cwV 2 S.2.2.2.2 (lw_V q1056 q1058 qs40 q139 q1059) rfl rfl rfl cdX1_counts ⟨Nat.le_of_ble_eq_true rfl, Nat.le_of_ble_eq_true rfl⟩) rfl hl.1 (Nat.le_of_ble_eq_true rfl) dX1_countWords_34 ⟨Nat.le_refl _, Nat.le_refl _⟩) hS (fun r_18 V_19 H locs h hV hS => ?_)
          refine lv_if_eq (tgt := 98) hx hb dX1_countWords_37 (by decide) (fun c_22 => ?_) (fun c_22 => ?_)
          · replace h := h.1 c_22
            exact C98 _ ih _ _ _ _ _ hV hS (lv_sub hl [1, 2, 3, 4] rfl) h
          · replace h := h.2 c_22
            refine lv_aload_n hx hb dX1_countWords_40 rfl (lv_at hl 1 rfl) ?_
            refine lv_iload_n hx hb dX1_countWords_41 rfl (lv_at hl 4 rfl) ?_
            refine lv_iload_n hx hb dX1_countWords_42 rfl (lv_at hl 3 rfl) ?_
            obtain ⟨o_25, e_26, h⟩ := bO_e h
            refine vk_i (vr_V (As := [.int x3, .int a2]) (rest := []) S hK hG hA hV hS e_26 rfl (mvX1_isFirst l a0 x3 a2 V_19 _ h) (cwV 2 S.2.2.2.2 (lw_V q1044 q1046 qs37 q139 q1047) rfl rfl rfl cdX1_isFirst ⟨Nat.le_of_ble_eq_true rfl, Nat.le_of_ble_eq_true rfl⟩) rfl hl.1 (Nat.le_of_ble_eq_true rfl) dX1_countWords_43 ⟨Nat.le_refl _, Nat.le_refl _⟩) hS (fun r_23 V_24 H locs h hV hS => ?_)
            refine lv_if_ne (tgt := 52) hx hb dX1_countWords_46 (by decide) (fun c_27 => ?_) (fun c_27 => ?_)
            · replace h := h.2 c_27
              refine lv_aload_n hx hb dX1_countWords_52 rfl (lv_at hl 1 rfl) ?_
              obtain ⟨p_28, e_29, h⟩ := bO_e h
              refine vg_r S hK hV fX1_53 e_29 dX1_countWords_53 ?_
              refine lv_aload hx hb dX1_countWords_56 (lv_at hl 0 rfl) ?_
              obtain ⟨o_32, e_33, h⟩ := bO_e h
              refine vk_i (vr_V (As := []) (rest := [va_rf p_28]) S hK hG hA hV hS e_33 rfl (mvX9_isRight l n_16 V_24 _ h) (cwV 0 S.2.2.2.2 (lw_V q1040 q1041 q1042 q162 q1043) rfl rfl rfl cdX9_isRight ⟨Nat.le_of_ble_eq_true rfl, Nat.le_of_ble_eq_true rfl⟩) rfl hl.1 (by cases p_28 <;> exact Nat.le_of_ble_eq_true rfl) dX1_countWords_58 ⟨Nat.le_refl _, Nat.le_refl _⟩) hS (fun r_30 V_31 H locs h hV hS => ?_)
              refine lv_if_eq (tgt := 68) hx hb dX1_countWords_61 (by decide) (fun c_34 => ?_) (fun c_34 => ?_)
              · replace h := h.1 c_34
                refine lv_bipush hx hb dX1_countWords_68 kb_6 ?_
                exact C70 _ ih _ _ _ _ _ _ _ _ hV hS (lv_sub hl [1, 2, 3, 4, 0] rfl) h
              · replace h := h.2 c_34
                refine lv_iconst hx hb dX1_countWords_64 kc_5 ?_
                refine lv_goto (tgt := 70) hx hb dX1_countWords_65 (by decide) ?_
                exact C70 _ ih _ _ _ _ _ _ _ _ hV hS (lv_sub hl [1, 2, 3, 4, 0] rfl) h
            · replace h := h.1 c_27
              refine lv_goto (tgt := 98) hx hb dX1_countWords_49 (by decide) ?_
              exact C98 _ ih _ _ _ _ _ hV hS (lv_sub hl [1, 2, 3, 4] rfl) h
  unfold vX1_countWords at h
  refine lv_iconst hx hb dX1_countWords_0 kc_0 ?_
  refine lv_istore_n (lv' := [(3, .int (0 : Int32)), (0, .ref a0), (1, .int a1), (2, .int a2)]) hx hb dX1_countWords_1 rfl hl (by decide) rfl (fun ls hl => ?_)
  obtain ⟨f, h⟩ := h
  exact L2 f _ _ _ _ _ hV hS (lv_sub hl [1, 2, 3, 0] rfl) h
def vX1_hearTalk_c190 (cA : Nat → ClassId) (a0 : Nat) (a1 : Int32) (a2 : Int32) (k110 : Int32 → VS → Prop) (Post : VS → Prop) (x4 : Int32) (V : VS) : Prop := ∀ v_107 : Int32, v_107 = x4 + (1 : Int32) → k110 v_107 V
def vX1_hearTalk_c188 (cA : Nat → ClassId) (a0 : Nat) (a1 : Int32) (a2 : Int32) (k110 : Int32 → VS → Prop) (Post : VS → Prop) (x4 : Int32) (t0 : Int64) (t1 : Int64) (t2 : Int32) (t3 : Nat) (V : VS) : Prop := bO (tJ V (cA 2) t3 t2 (t1 + t0)) (fun V_105 => vX1_hearTalk_c190 cA a0 a1 a2 k110 Post x4 V_105)
def vX1_hearTalk_l110 (cA : Nat → ClassId) (a0 : Nat) (a1 : Int32) (a2 : Int32) (Post : VS → Prop) : Nat → Int32 → VS → Prop
  | 0, _, _ => False
  | n + 1, x4, V => bO (gR V [1] a0 11) (fun p_61 => bO p_61 (fun n_63 => bO (gR V [3] n_63 3) (fun p_64 => bO p_64 (fun n_66 => bO (vO V [14] n_66) (fun o_69 => vJ2_size cA n_66 V (fun r_67 V_68 => (r_67 ≤ x4 → (Post V_68)) ∧ (¬ (r_67 ≤ x4) → (bO (gR V_68 [1] a0 11) (fun p_72 => bO p_72 (fun n_74 => bO (gR V_68 [3] n_74 3) (fun p_75 => bO p_75 (fun n_77 => bO (vO V_68 [14] n_77) (fun o_80 => vJ2_get cA n_77 x4 V_68 (fun p_78 V_79 => bO p_78 (fun n_82 => bO (vO V_79 [9] n_82) (fun o_83 => bO (gI V_79 [9] n_82 0) (fun g_85 => (g_85 = a1 → (bO (gR V_79 [1] a0 12) (fun p_88 => bO p_88 (fun n_90 => bO (lJ V_79 (cA 2) n_90 (9 : Int32)) (fun g_91 => bO (tJ V_79 (cA 2) n_90 (9 : Int32) (g_91 + (1 : Int64))) (fun V_93 => bO (gR V_93 [1] a0 12) (fun p_95 => bO p_95 (fun n_97 => bO (lJ V_93 (cA 2) n_97 (8 : Int32)) (fun g_98 => bO (vO V_93 [1] a0) (fun o_102 => vX1_kindOf cA a0 n_82 V_93 (fun r_100 V_101 => (r_100 ≤ (1 : Int32) → (vX1_hearTalk_c188 cA a0 a1 a2 (vX1_hearTalk_l110 cA a0 a1 a2 Post n) Post x4 (0 : Int64) g_98 (8 : Int32) n_97 V_101)) ∧ (¬ (r_100 ≤ (1 : Int32)) → (vX1_hearTalk_c188 cA a0 a1 a2 (vX1_hearTalk_l110 cA a0 a1 a2 Post n) Post x4 (1 : Int64) g_98 (8 : Int32) n_97 V_101))))))))))))) ∧ (¬ (g_85 = a1) → (vX1_hearTalk_c190 cA a0 a1 a2 (vX1_hearTalk_l110 cA a0 a1 a2 Post n) Post x4 V_79)))))))))))))))))))
def vX1_hearTalk_c64 (cA : Nat → ClassId) (a0 : Nat) (a1 : Int32) (a2 : Int32) (Post : VS → Prop) (x3 : Nat) (t0 : Int64) (t1 : Int32) (t2 : Option Nat) (V : VS) : Prop := bO t2 (fun n_28 => bO (tJ V (cA 2) n_28 t1 t0) (fun V_29 => bO (gR V_29 [1] a0 11) (fun p_31 => bO p_31 (fun n_33 => bO (gR V_29 [3] n_33 2) (fun p_34 => bO p_34 (fun n_36 => bO (vO V_29 [14] n_36) (fun o_39 => vJ2_size cA n_36 V_29 (fun r_37 V_38 => bO (vO V_38 [1] a0) (fun o_43 => vX1_countAsks cA a0 a1 r_37 a2 V_38 (fun V_42 => bO (vO V_42 [1] a0) (fun o_47 => vX1_countWords cA a0 a1 a2 V_42 (fun V_46 => (a2 = 0 → (bO (gR V_46 [1] a0 12) (fun p_50 => bO (gI V_46 [6] x3 3) (fun g_52 => bO (vO V_46 [6] x3) (fun o_56 => vX7_off cA x3 g_52 V_46 (fun r_54 V_55 => bO p_50 (fun n_58 => bO (tJ V_55 (cA 2) n_58 (2 : Int32) r_54.toInt64) (fun V_59 => ∃ f, vX1_hearTalk_l110 cA a0 a1 a2 Post f (0 : Int32) V_59)))))))) ∧ (¬ (a2 = 0) → (Post V_46))))))))))))))
def vX1_hearTalk (cA : Nat → ClassId) (a0 : Nat) (a1 : Int32) (a2 : Int32) (V : VS) (Post : VS → Prop) : Prop := bO (gR V [1] a0 11) (fun p_1 => bO p_1 (fun n_3 => bO (gR V [3] n_3 1) (fun p_4 => bO p_4 (fun n_6 => bO (vO V [14] n_6) (fun o_9 => vJ2_get cA n_6 a1 V (fun p_7 V_8 => bO p_7 (fun n_11 => bO (vO V_8 [6] n_11) (fun o_12 => bO (vO V_8 [1] a0) (fun o_16 => vX1_nothing cA a0 n_11 V_8 (fun V_15 => bO (gR V_15 [1] a0 12) (fun p_18 => (a2 = 0 → (bO (gI V_15 [6] n_11 3) (fun g_108 => bO (gI V_15 [6] n_11 2) (fun g_110 => vX1_hearTalk_c64 cA a0 a1 a2 Post n_11 ((g_108 - g_110).toInt64) (1 : Int32) p_18 V_15)))) ∧ (¬ (a2 = 0) → (bO (gI V_15 [6] n_11 4) (fun g_21 => (g_21 = (-1 : Int32) → (vX1_hearTalk_c64 cA a0 a1 a2 Post n_11 (0 : Int64) (1 : Int32) p_18 V_15)) ∧ (¬ (g_21 = (-1 : Int32)) → (bO (gI V_15 [6] n_11 3) (fun g_24 => bO (gI V_15 [6] n_11 4) (fun g_26 => vX1_hearTalk_c64 cA a0 a1 a2 Post n_11 ((g_24 - g_26).toInt64) (1 : Int32) p_18 V_15))))))))))))))))))
abbrev rX1_hearTalk : Room := { frames := 7, cells := 0, slots := 0, locals := 160 }
theorem cdX1_hearTalk : yX1_hearTalk.cls = RX1 ∧ yX1_hearTalk.cls ≠ "java/lang/invoke/MethodHandle" ∧ yX1_hearTalk.cls ≠ "java/lang/invoke/VarHandle" ∧ (parseMethodDescriptor yX1_hearTalk.desc).map (fun d => d.parameters.length) = some 2 := by decide +kernel
set_option maxHeartbeats 4000000 in
set_option maxRecDepth 100000 in
theorem mvX1_hearTalk (l : Launch) {D : va_G} {cA : Nat → ClassId} {A : Nat → Prop} (a0 : Nat) (a1 : Int32) (a2 : Int32) (V : VS) (Post : VS → Prop) (h : vX1_hearTalk cA a0 a1 a2 V Post) : Met l yX1_hearTalk (ws_ yX1_hearTalk cX1_hearTalk 6 none) rX1_hearTalk (vPc [.ref a0, .int a1, .int a2] D cA A V) (va_Qv Post (vB D A) A) 0 0 A := by
  refine vstM (own := RX1) (by decide) rfl (Nat.le_of_ble_eq_true rfl) ?_
  intro p e s m args below meth c ls X hret hV hS hl
  obtain ⟨S, hK, hG, hA, hnm, hlocks⟩ := X
  have hx := S.1
  have hb := S.2.1
  have hl : lv_has ls 6 [(0, .ref a0), (1, .int a1), (2, .int a2)] := hl
  have C190 : ∀ (k110 : Int32 → VS → Prop) (K110 : (∀ (x4 : Int32) (V : VS) (H : Heap) (locs : List Loc) (ls : Array Slot), HV D A V H → va_S A s.heap H locs → lv_has ls 6 [(0, .ref a0), (1, .int a1), (2, .int a2), (4, .int x4)] → k110 x4 V → W p l e rX1_hearTalk s m args below meth c H locs 0 0 (MQ below (va_Qv Post (vB D A) A) args s 0 0 A) (F0 m 110 ls []))), ∀ (x4 : Int32) (V : VS) (H : Heap) (locs : List Loc) (ls : Array Slot), HV D A V H → va_S A s.heap H locs → lv_has ls 6 [(0, .ref a0), (1, .int a1), (2, .int a2), (4, .int x4)] → vX1_hearTalk_c190 cA a0 a1 a2 k110 Post x4 V → W p l e rX1_hearTalk s m args below meth c H locs 0 0 (MQ below (va_Qv Post (vB D A) A) args s 0 0 A) (F0 m 190 ls []) := by
    intro k110 K110
    intro x4 V H locs ls hV hS hl h
    unfold vX1_hearTalk_c190 at h
    obtain ⟨v_107, e_v_107⟩ : ∃ y : Int32, y = x4 + (1 : Int32) := ⟨_, rfl⟩
    replace h := h v_107 e_v_107
    refine lv_iinc (v := v_107) (lv' := [(4, .int v_107), (0, .ref a0), (1, .int a1), (2, .int a2)]) hx hb dX1_hearTalk_190 hl (k := 3) rfl (by rw [kc_1, e_v_107]) (by decide) rfl (fun ls hl => ?_)
    refine lv_goto (tgt := 110) hx hb dX1_hearTalk_193 (by decide) ?_
    exact K110 _ _ _ _ _ hV hS (lv_sub hl [1, 2, 3, 0] rfl) h
  have C188 : ∀ (k110 : Int32 → VS → Prop) (K110 : (∀ (x4 : Int32) (V : VS) (H : Heap) (locs : List Loc) (ls : Array Slot), HV D A V H → va_S A s.heap H locs → lv_has ls 6 [(0, .ref a0), (1, .int a1), (2, .int a2), (4, .int x4)] → k110 x4 V → W p l e rX1_hearTalk s m args below meth c H locs 0 0 (MQ below (va_Qv Post (vB D A) A) args s 0 0 A) (F0 m 110 ls []))), ∀ (x4 : Int32) (t0 : Int64) (t1 : Int64) (t2 : Int32) (t3 : Nat) (V : VS) (H : Heap) (locs : List Loc) (ls : Array Slot), HV D A V H → va_S A s.heap H locs → lv_has ls 6 [(0, .ref a0), (1, .int a1), (2, .int a2), (4, .int x4)] → vX1_hearTalk_c188 cA a0 a1 a2 k110 Post x4 t0 t1 t2 t3 V → W p l e rX1_hearTalk s m args below meth c H locs 0 0 (MQ below (va_Qv Post (vB D A) A) args s 0 0 A) (F0 m 188 ls [.long t0, .long t1, .int t2, .ref t3]) := by
    intro k110 K110
    intro x4 t0 t1 t2 t3 V H locs ls hV hS hl h
    unfold vX1_hearTalk_c188 at h
    refine lv_ladd hx hb dX1_hearTalk_188 ?_
    obtain ⟨V_105, e_106, h⟩ := bO_e h
    refine vs_l S hK hV hS e_106 dX1_hearTalk_189 (fun H locs hV hS => ?_)
    exact C190 _ K110 _ _ _ _ _ hV hS (lv_sub hl [0, 1, 2, 3] rfl) h
  have L110 : ∀ (n : Nat) (x4 : Int32) (V : VS) (H : Heap) (locs : List Loc) (ls : Array Slot), HV D A V H → va_S A s.heap H locs → lv_has ls 6 [(0, .ref a0), (1, .int a1), (2, .int a2), (4, .int x4)] → vX1_hearTalk_l110 cA a0 a1 a2 Post n x4 V → W p l e rX1_hearTalk s m args below meth c H locs 0 0 (MQ below (va_Qv Post (vB D A) A) args s 0 0 A) (F0 m 110 ls []) := by
    intro n
    induction n with
    | zero => intro x4 V H locs ls hV hS hl h; rw [vX1_hearTalk_l110] at h; exact h.elim
    | succ n ih =>
      intro x4 V H locs ls hV hS hl h
      rw [vX1_hearTalk_l110] at h
      refine lv_iload hx hb dX1_hearTalk_110 (lv_at hl 3 rfl) ?_
      refine lv_aload_n hx hb dX1_hearTalk_112 rfl (lv_at hl 0 rfl) ?_
      obtain ⟨p_61, e_62, h⟩ := bO_e h
      refine vg_r S hK hV fX1_49 e_62 dX1_hearTalk_113 ?_
      obtain ⟨n_63, z_n_63, h9⟩ := bO_e h
      clear h; subst z_n_63; have h := h9; clear h9
      obtain ⟨p_64, e_65, h⟩ := bO_e h
      refine vg_r S hK hV fX1_281 e_65 dX1_hearTalk_116 ?_
      obtain ⟨n_66, z_n_66, h9⟩ := bO_e h
      clear h; subst z_n_66; have h := h9; clear h9
      obtain ⟨o_69, e_70, h⟩ := bO_e h
      refine vk_i (vr_V (As := []) (rest := [.int x4]) S hK hG hA hV hS e_70 rfl (mvJ2_size l n_66 V _ h) (cwV 0 S.2.2.2.2 (lw_V q972 q591 q592 q144 q593) rfl rfl rfl cdJ2_size ⟨Nat.le_of_ble_eq_true rfl, Nat.le_of_ble_eq_true rfl⟩) rfl hl.1 (Nat.le_of_ble_eq_true rfl) dX1_hearTalk_119 ⟨Nat.le_refl _, Nat.le_refl _⟩) hS (fun r_67 V_68 H locs h hV hS => ?_)
      refine lv_icmp_ge (tgt := 196) hx hb dX1_hearTalk_122 (by decide) (fun c_71 => ?_) (fun c_71 => ?_)
      · replace h := h.1 c_71
        exact ve_v S hlocks hret hV hS h (Nat.le_refl _) (Nat.le_refl _) dX1_hearTalk_196
      · replace h := h.2 c_71
        refine lv_aload_n hx hb dX1_hearTalk_125 rfl (lv_at hl 0 rfl) ?_
        obtain ⟨p_72, e_73, h⟩ := bO_e h
        refine vg_r S hK hV fX1_49 e_73 dX1_hearTalk_126 ?_
        obtain ⟨n_74, z_n_74, h9⟩ := bO_e h
        clear h; subst z_n_74; have h := h9; clear h9
        obtain ⟨p_75, e_76, h⟩ := bO_e h
        refine vg_r S hK hV fX1_281 e_76 dX1_hearTalk_129 ?_
        refine lv_iload hx hb dX1_hearTalk_132 (lv_at hl 3 rfl) ?_
        obtain ⟨n_77, z_n_77, h9⟩ := bO_e h
        clear h; subst z_n_77; have h := h9; clear h9
        obtain ⟨o_80, e_81, h⟩ := bO_e h
        refine vk_q (vr_V (As := [.int x4]) (rest := []) S hK hG hA hV hS e_81 rfl (mvJ2_get l n_77 x4 V_68 _ h) (cwV 1 S.2.2.2.2 (lw_V q973 q608 q609 q144 q610) rfl rfl rfl cdJ2_get ⟨Nat.le_of_ble_eq_true rfl, Nat.le_of_ble_eq_true rfl⟩) rfl hl.1 (Nat.le_of_ble_eq_true rfl) dX1_hearTalk_134 ⟨Nat.le_refl _, Nat.le_refl _⟩) hS (fun p_78 V_79 H locs h hV hS => ?_)
        obtain ⟨n_82, z_n_82, h9⟩ := bO_e h
        clear h; subst z_n_82; have h := h9; clear h9
        obtain ⟨o_83, e_84, h⟩ := bO_e h
        refine v_cast S hK hV e_84 ct_SaidSo_Page q1139 dX1_hearTalk_137 ?_
        refine lv_astore (lv' := [(5, .ref n_82), (0, .ref a0), (1, .int a1), (2, .int a2), (4, .int x4)]) hx hb dX1_hearTalk_140 hl (by decide) rfl (fun ls hl => ?_)
        refine lv_aload hx hb dX1_hearTalk_142 (lv_at hl 0 rfl) ?_
        obtain ⟨g_85, e_86, h⟩ := bO_e h
        refine vg_i S hK hV fX1_286 e_86 dX1_hearTalk_144 ?_
        refine lv_iload_n hx hb dX1_hearTalk_147 rfl (lv_at hl 2 rfl) ?_
        refine lv_icmp_eq (tgt := 154) hx hb dX1_hearTalk_148 (by decide) (fun c_87 => ?_) (fun c_87 => ?_)
        · replace h := h.1 c_87
          refine lv_aload_n hx hb dX1_hearTalk_154 rfl (lv_at hl 1 rfl) ?_
          obtain ⟨p_88, e_89, h⟩ := bO_e h
          refine vg_r S hK hV fX1_53 e_89 dX1_hearTalk_155 ?_
          refine lv_bipush hx hb dX1_hearTalk_158 kb_9 ?_
          obtain ⟨n_90, z_n_90, h9⟩ := bO_e h
          clear h; subst z_n_90; have h := h9; clear h9
          refine lv_dup2_11 hx hb dX1_hearTalk_160 rfl rfl ?_
          obtain ⟨g_91, e_92, h⟩ := bO_e h
          refine vl_l S hK hV e_92 dX1_hearTalk_161 ?_
          refine lv_lconst (v := 1) hx hb dX1_hearTalk_162 rfl ?_
          refine lv_ladd hx hb dX1_hearTalk_163 ?_
          obtain ⟨V_93, e_94, h⟩ := bO_e h
          refine vs_l S hK hV hS e_94 dX1_hearTalk_164 (fun H locs hV hS => ?_)
          refine lv_aload_n hx hb dX1_hearTalk_165 rfl (lv_at hl 1 rfl) ?_
          obtain ⟨p_95, e_96, h⟩ := bO_e h
          refine vg_r S hK hV fX1_53 e_96 dX1_hearTalk_166 ?_
          refine lv_bipush hx hb dX1_hearTalk_169 kb_8 ?_
          obtain ⟨n_97, z_n_97, h9⟩ := bO_e h
          clear h; subst z_n_97; have h := h9; clear h9
          refine lv_dup2_11 hx hb dX1_hearTalk_171 rfl rfl ?_
          obtain ⟨g_98, e_99, h⟩ := bO_e h
          refine vl_l S hK hV e_99 dX1_hearTalk_172 ?_
          refine lv_aload_n hx hb dX1_hearTalk_173 rfl (lv_at hl 1 rfl) ?_
          refine lv_aload hx hb dX1_hearTalk_174 (lv_at hl 0 rfl) ?_
          obtain ⟨o_102, e_103, h⟩ := bO_e h
          refine vk_i (vr_V (As := [.ref n_82]) (rest := [.long g_98, .int (8 : Int32), .ref n_97]) S hK hG hA hV hS e_103 rfl (mvX1_kindOf l a0 n_82 V_93 _ h) (cwV 1 S.2.2.2.2 (lw_V q1144 q1146 qs45 q139 q1147) rfl rfl rfl cdX1_kindOf ⟨Nat.le_of_ble_eq_true rfl, Nat.le_of_ble_eq_true rfl⟩) rfl hl.1 (Nat.le_of_ble_eq_true rfl) dX1_hearTalk_176 ⟨Nat.le_refl _, Nat.le_refl _⟩) hS (fun r_100 V_101 H locs h hV hS => ?_)
          refine lv_iconst hx hb dX1_hearTalk_179 kc_1 ?_
          refine lv_icmp_le (tgt := 187) hx hb dX1_hearTalk_180 (by decide) (fun c_104 => ?_) (fun c_104 => ?_)
          · replace h := h.1 c_104
            refine lv_lconst (v := 0) hx hb dX1_hearTalk_187 rfl ?_
            exact C188 _ ih _ _ _ _ _ _ _ _ _ hV hS (lv_sub hl [1, 2, 3, 4] rfl) h
          · replace h := h.2 c_104
            refine lv_lconst (v := 1) hx hb dX1_hearTalk_183 rfl ?_
            refine lv_goto (tgt := 188) hx hb dX1_hearTalk_184 (by decide) ?_
            exact C188 _ ih _ _ _ _ _ _ _ _ _ hV hS (lv_sub hl [1, 2, 3, 4] rfl) h
        · replace h := h.2 c_87
          refine lv_goto (tgt := 190) hx hb dX1_hearTalk_151 (by decide) ?_
          exact C190 _ ih _ _ _ _ _ hV hS (lv_sub hl [1, 2, 3, 4] rfl) h
  have C64 : ∀ (x3 : Nat) (t0 : Int64) (t1 : Int32) (t2 : Option Nat) (V : VS) (H : Heap) (locs : List Loc) (ls : Array Slot), HV D A V H → va_S A s.heap H locs → lv_has ls 6 [(0, .ref a0), (1, .int a1), (2, .int a2), (3, .ref x3)] → vX1_hearTalk_c64 cA a0 a1 a2 Post x3 t0 t1 t2 V → W p l e rX1_hearTalk s m args below meth c H locs 0 0 (MQ below (va_Qv Post (vB D A) A) args s 0 0 A) (F0 m 64 ls [.long t0, .int t1, va_rf t2]) := by
    intro x3 t0 t1 t2 V H locs ls hV hS hl h
    unfold vX1_hearTalk_c64 at h
    obtain ⟨n_28, z_n_28, h9⟩ := bO_e h
    clear h; subst z_n_28; have h := h9; clear h9
    obtain ⟨V_29, e_30, h⟩ := bO_e h
    refine vs_l S hK hV hS e_30 dX1_hearTalk_64 (fun H locs hV hS => ?_)
    refine lv_aload_n hx hb dX1_hearTalk_65 rfl (lv_at hl 0 rfl) ?_
    refine lv_iload_n hx hb dX1_hearTalk_66 rfl (lv_at hl 1 rfl) ?_
    refine lv_aload_n hx hb dX1_hearTalk_67 rfl (lv_at hl 0 rfl) ?_
    obtain ⟨p_31, e_32, h⟩ := bO_e h
    refine vg_r S hK hV fX1_49 e_32 dX1_hearTalk_68 ?_
    obtain ⟨n_33, z_n_33, h9⟩ := bO_e h
    clear h; subst z_n_33; have h := h9; clear h9
    obtain ⟨p_34, e_35, h⟩ := bO_e h
    refine vg_r S hK hV fX1_173 e_35 dX1_hearTalk_71 ?_
    obtain ⟨n_36, z_n_36, h9⟩ := bO_e h
    clear h; subst z_n_36; have h := h9; clear h9
    obtain ⟨o_39, e_40, h⟩ := bO_e h
    refine vk_i (vr_V (As := []) (rest := [.int a1, .ref a0]) S hK hG hA hV hS e_40 rfl (mvJ2_size l n_36 V_29 _ h) (cwV 0 S.2.2.2.2 (lw_V q972 q591 q592 q144 q593) rfl rfl rfl cdJ2_size ⟨Nat.le_of_ble_eq_true rfl, Nat.le_of_ble_eq_true rfl⟩) rfl hl.1 (Nat.le_of_ble_eq_true rfl) dX1_hearTalk_74 ⟨Nat.le_refl _, Nat.le_refl _⟩) hS (fun r_37 V_38 H locs h hV hS => ?_)
    refine lv_iload_n hx hb dX1_hearTalk_77 rfl (lv_at hl 2 rfl) ?_
    obtain ⟨o_43, e_44, h⟩ := bO_e h
    refine vk_v (vr_V (As := [.int a1, .int r_37, .int a2]) (rest := []) S hK hG hA hV hS e_44 rfl (mvX1_countAsks l a0 a1 r_37 a2 V_38 _ h) (cwV 3 S.2.2.2.2 (lw_V q1223 q1225 qs53 q139 q1226) rfl rfl rfl cdX1_countAsks ⟨Nat.le_of_ble_eq_true rfl, Nat.le_of_ble_eq_true rfl⟩) rfl hl.1 (Nat.le_of_ble_eq_true rfl) dX1_hearTalk_78 ⟨Nat.le_refl _, Nat.le_refl _⟩) hS (fun V_42 H locs h hV hS => ?_)
    refine lv_aload_n hx hb dX1_hearTalk_81 rfl (lv_at hl 0 rfl) ?_
    refine lv_iload_n hx hb dX1_hearTalk_82 rfl (lv_at hl 1 rfl) ?_
    refine lv_iload_n hx hb dX1_hearTalk_83 rfl (lv_at hl 2 rfl) ?_
    obtain ⟨o_47, e_48, h⟩ := bO_e h
    refine vk_v (vr_V (As := [.int a1, .int a2]) (rest := []) S hK hG hA hV hS e_48 rfl (mvX1_countWords l a0 a1 a2 V_42 _ h) (cwV 2 S.2.2.2.2 (lw_V q1295 q1297 qs58 q139 q1298) rfl rfl rfl cdX1_countWords ⟨Nat.le_of_ble_eq_true rfl, Nat.le_of_ble_eq_true rfl⟩) rfl hl.1 (Nat.le_of_ble_eq_true rfl) dX1_hearTalk_84 ⟨Nat.le_refl _, Nat.le_refl _⟩) hS (fun V_46 H locs h hV hS => ?_)
    refine lv_iload_n hx hb dX1_hearTalk_87 rfl (lv_at hl 2 rfl) ?_
    refine lv_if_eq (tgt := 92) hx hb dX1_hearTalk_88 (by decide) (fun c_49 => ?_) (fun c_49 => ?_)
    · replace h := h.1 c_49
      refine lv_aload_n hx hb dX1_hearTalk_92 rfl (lv_at hl 0 rfl) ?_
      obtain ⟨p_50, e_51, h⟩ := bO_e h
      refine vg_r S hK hV fX1_53 e_51 dX1_hearTalk_93 ?_
      refine lv_iconst hx hb dX1_hearTalk_96 kc_2 ?_
      refine lv_aload_n hx hb dX1_hearTalk_97 rfl (lv_at hl 3 rfl) ?_
      refine lv_aload_n hx hb dX1_hearTalk_98 rfl (lv_at hl 3 rfl) ?_
      obtain ⟨g_52, e_53, h⟩ := bO_e h
      refine vg_i S hK hV fX1_167 e_53 dX1_hearTalk_99 ?_
      obtain ⟨o_56, e_57, h⟩ := bO_e h
      refine vk_i (vr_V (As := [.int g_52]) (rest := [.int (2 : Int32), va_rf p_50]) S hK hG hA hV hS e_57 rfl (mvX7_off l x3 g_52 V_46 _ h) (cwV 1 S.2.2.2.2 (lw_V q1217 q1218 q1219 q160 q1220) rfl rfl rfl cdX7_off ⟨Nat.le_of_ble_eq_true rfl, Nat.le_of_ble_eq_true rfl⟩) rfl hl.1 (by cases p_50 <;> exact Nat.le_of_ble_eq_true rfl) dX1_hearTalk_102 ⟨Nat.le_refl _, Nat.le_refl _⟩) hS (fun r_54 V_55 H locs h hV hS => ?_)
      refine lv_i2l hx hb dX1_hearTalk_105 rfl ?_
      obtain ⟨n_58, z_n_58, h9⟩ := bO_e h
      clear h; subst z_n_58; have h := h9; clear h9
      obtain ⟨V_59, e_60, h⟩ := bO_e h
      refine vs_l S hK hV hS e_60 dX1_hearTalk_106 (fun H locs hV hS => ?_)
      refine lv_iconst hx hb dX1_hearTalk_107 kc_0 ?_
      refine lv_istore (lv' := [(4, .int (0 : Int32)), (0, .ref a0), (1, .int a1), (2, .int a2), (3, .ref x3)]) hx hb dX1_hearTalk_108 hl (by decide) rfl (fun ls hl => ?_)
      obtain ⟨f, h⟩ := h
      exact L110 f _ _ _ _ _ hV hS (lv_sub hl [1, 2, 3, 0] rfl) h
    · replace h := h.2 c_49
      exact ve_v S hlocks hret hV hS h (Nat.le_refl _) (Nat.le_refl _) dX1_hearTalk_91
  unfold vX1_hearTalk at h
  refine lv_aload_n hx hb dX1_hearTalk_0 rfl (lv_at hl 0 rfl) ?_
  obtain ⟨p_1, e_2, h⟩ := bO_e h
  refine vg_r S hK hV fX1_49 e_2 dX1_hearTalk_1 ?_
  obtain ⟨n_3, z_n_3, h9⟩ := bO_e h
  clear h; subst z_n_3; have h := h9; clear h9
  obtain ⟨p_4, e_5, h⟩ := bO_e h
  refine vg_r S hK hV fX1_115 e_5 dX1_hearTalk_4 ?_
  refine lv_iload_n hx hb dX1_hearTalk_7 rfl (lv_at hl 1 rfl) ?_
  obtain ⟨n_6, z_n_6, h9⟩ := bO_e h
  clear h; subst z_n_6; have h := h9; clear h9
  obtain ⟨o_9, e_10, h⟩ := bO_e h
  refine vk_q (vr_V (As := [.int a1]) (rest := []) S hK hG hA hV hS e_10 rfl (mvJ2_get l n_6 a1 V _ h) (cwV 1 S.2.2.2.2 (lw_V q973 q608 q609 q144 q610) rfl rfl rfl cdJ2_get ⟨Nat.le_of_ble_eq_true rfl, Nat.le_of_ble_eq_true rfl⟩) rfl hl.1 (Nat.le_of_ble_eq_true rfl) dX1_hearTalk_8 ⟨Nat.le_refl _, Nat.le_refl _⟩) hS (fun p_7 V_8 H locs h hV hS => ?_)
  obtain ⟨n_11, z_n_11, h9⟩ := bO_e h
  clear h; subst z_n_11; have h := h9; clear h9
  obtain ⟨o_12, e_13, h⟩ := bO_e h
  refine v_cast S hK hV e_13 ct_SaidSo_Teller q974 dX1_hearTalk_11 ?_
  refine lv_astore_n (lv' := [(3, .ref n_11), (0, .ref a0), (1, .int a1), (2, .int a2)]) hx hb dX1_hearTalk_14 rfl hl (by decide) rfl (fun ls hl => ?_)
  refine lv_aload_n hx hb dX1_hearTalk_15 rfl (lv_at hl 1 rfl) ?_
  refine lv_aload_n hx hb dX1_hearTalk_16 rfl (lv_at hl 0 rfl) ?_
  obtain ⟨o_16, e_17, h⟩ := bO_e h
  refine vk_v (vr_V (As := [.ref n_11]) (rest := []) S hK hG hA hV hS e_17 rfl (mvX1_nothing l a0 n_11 V_8 _ h) (cwV 1 S.2.2.2.2 (lw_V q1213 q1215 qs52 q139 q1216) rfl rfl rfl cdX1_nothing ⟨Nat.le_of_ble_eq_true rfl, Nat.le_of_ble_eq_true rfl⟩) rfl hl.1 (Nat.le_of_ble_eq_true rfl) dX1_hearTalk_17 ⟨Nat.le_refl _, Nat.le_refl _⟩) hS (fun V_15 H locs h hV hS => ?_)
  refine lv_aload_n hx hb dX1_hearTalk_20 rfl (lv_at hl 1 rfl) ?_
  obtain ⟨p_18, e_19, h⟩ := bO_e h
  refine vg_r S hK hV fX1_53 e_19 dX1_hearTalk_21 ?_
  refine lv_iconst hx hb dX1_hearTalk_24 kc_1 ?_
  refine lv_iload_n hx hb dX1_hearTalk_25 rfl (lv_at hl 3 rfl) ?_
  refine lv_if_ne (tgt := 42) hx hb dX1_hearTalk_26 (by decide) (fun c_20 => ?_) (fun c_20 => ?_)
  · replace h := h.2 c_20
    refine lv_aload_n hx hb dX1_hearTalk_42 rfl (lv_at hl 0 rfl) ?_
    obtain ⟨g_21, e_22, h⟩ := bO_e h
    refine vg_i S hK hV fX1_170 e_22 dX1_hearTalk_43 ?_
    refine lv_iconst hx hb dX1_hearTalk_46 kc_m1 ?_
    refine lv_icmp_ne (tgt := 54) hx hb dX1_hearTalk_47 (by decide) (fun c_23 => ?_) (fun c_23 => ?_)
    · replace h := h.2 c_23
      refine lv_aload_n hx hb dX1_hearTalk_54 rfl (lv_at hl 0 rfl) ?_
      obtain ⟨g_24, e_25, h⟩ := bO_e h
      refine vg_i S hK hV fX1_167 e_25 dX1_hearTalk_55 ?_
      refine lv_aload_n hx hb dX1_hearTalk_58 rfl (lv_at hl 0 rfl) ?_
      obtain ⟨g_26, e_27, h⟩ := bO_e h
      refine vg_i S hK hV fX1_170 e_27 dX1_hearTalk_59 ?_
      refine lv_isub hx hb dX1_hearTalk_62 ?_
      refine lv_i2l hx hb dX1_hearTalk_63 rfl ?_
      exact C64 _ _ _ _ _ _ _ _ hV hS (lv_sub hl [1, 2, 3, 0] rfl) h
    · replace h := h.1 c_23
      refine lv_lconst (v := 0) hx hb dX1_hearTalk_50 rfl ?_
      refine lv_goto (tgt := 64) hx hb dX1_hearTalk_51 (by decide) ?_
      exact C64 _ _ _ _ _ _ _ _ hV hS (lv_sub hl [1, 2, 3, 0] rfl) h
  · replace h := h.1 c_20
    refine lv_aload_n hx hb dX1_hearTalk_29 rfl (lv_at hl 0 rfl) ?_
    obtain ⟨g_108, e_109, h⟩ := bO_e h
    refine vg_i S hK hV fX1_167 e_109 dX1_hearTalk_30 ?_
    refine lv_aload_n hx hb dX1_hearTalk_33 rfl (lv_at hl 0 rfl) ?_
    obtain ⟨g_110, e_111, h⟩ := bO_e h
    refine vg_i S hK hV fX1_164 e_111 dX1_hearTalk_34 ?_
    refine lv_isub hx hb dX1_hearTalk_37 ?_
    refine lv_i2l hx hb dX1_hearTalk_38 rfl ?_
    refine lv_goto (tgt := 64) hx hb dX1_hearTalk_39 (by decide) ?_
    exact C64 _ _ _ _ _ _ _ _ hV hS (lv_sub hl [1, 2, 3, 0] rfl) h
def vX1_holds (cA : Nat → ClassId) (a0 : Nat) (a1 : Int32) (V : VS) (Post : Int32 → VS → Prop) (PX : Nat → Nat → VS → Prop) : Prop := bO (gR V [1] a0 11) (fun p_1 => bO p_1 (fun n_3 => bO (gR V [3] n_3 4) (fun p_4 => bO p_4 (fun n_6 => bO (lR V (cA 5) n_6 a1) (fun p_7 => (p_7 = none → (Post (0 : Int32) V)) ∧ (∀ n_9 : Nat, p_7 = some n_9 → (bO (gR V [1] a0 11) (fun p_10 => bO p_10 (fun n_12 => bO (gR V [3] n_12 4) (fun p_13 => bO p_13 (fun n_15 => bO (lR V (cA 5) n_15 a1) (fun p_16 => bO (gR V [1] a0 12) (fun p_18 => bO p_18 (fun n_20 => bO p_16 (fun n_21 => vP_G cA 80 n_21 n_20 V (fun r_22 V_23 => (r_22 = (0 : Int64) → (Post (0 : Int32) V_23)) ∧ (¬ (r_22 = (0 : Int64)) → (Post (1 : Int32) V_23))) (fun k9 q_24 V_25 => (k9 = 1 ∧ (Post (0 : Int32) V_25))))))))))))))))))
abbrev rX1_holds : Room := { frames := 91, cells := 0, slots := 0, locals := 5160 }
theorem cdX1_holds : yX1_holds.cls = RX1 ∧ yX1_holds.cls ≠ "java/lang/invoke/MethodHandle" ∧ yX1_holds.cls ≠ "java/lang/invoke/VarHandle" ∧ (parseMethodDescriptor yX1_holds.desc).map (fun d => d.parameters.length) = some 1 := by decide +kernel
set_option maxHeartbeats 4000000 in
set_option maxRecDepth 100000 in
theorem mvX1_holds (l : Launch) {D : va_G} {cA : Nat → ClassId} {A : Nat → Prop} (a0 : Nat) (a1 : Int32) (V : VS) (Post : Int32 → VS → Prop) (PX : Nat → Nat → VS → Prop) (h : vX1_holds cA a0 a1 V Post PX) : vx_Met l yX1_holds (wsW_ yX1_holds cX1_holds 3 (some (.boolean)) [((14 : Nat), (40 : Nat), (41 : Nat), (366 : Nat))]) rX1_holds (vPc [.ref a0, .int a1] D cA A V) (va_Qi Post (vB D A) A) (vX D A PX) 0 0 A := by
  refine vstH (own := RX1) (by decide) rfl (Nat.le_of_ble_eq_true rfl) ?_
  intro p e s m args below meth c ls X hret hV hS hl
  obtain ⟨S, hK, hG, hA, hnm, hlocks, htab⟩ := X
  have hx := S.1
  have hb := S.2.1
  have hl : lv_has ls 3 [(0, .ref a0), (1, .int a1)] := hl
  unfold vX1_holds at h
  refine lv_aload_n hx hb dX1_holds_0 rfl (lv_at hl 0 rfl) ?_
  obtain ⟨p_1, e_2, h⟩ := bO_e h
  refine vg_r S hK hV fX1_49 e_2 dX1_holds_1 ?_
  obtain ⟨n_3, z_n_3, h9⟩ := bO_e h
  clear h; subst z_n_3; have h := h9; clear h9
  obtain ⟨p_4, e_5, h⟩ := bO_e h
  refine vg_r S hK hV fX1_338 e_5 dX1_holds_4 ?_
  refine lv_iload_n hx hb dX1_holds_7 rfl (lv_at hl 1 rfl) ?_
  obtain ⟨n_6, z_n_6, h9⟩ := bO_e h
  clear h; subst z_n_6; have h := h9; clear h9
  obtain ⟨p_7, e_8, h⟩ := bO_e h
  refine vl_r S hK hV 5 rfl e_8 dX1_holds_8 ?_
  rcases p_7 with _ | n_9
  · replace h := h.1 rfl
    refine lv_ifnonnullN hx hb dX1_holds_9 ?_
    refine lv_iconst hx hb dX1_holds_12 kc_0 ?_
    exact vx_ret (ve_i S hlocks hret hV hS h (vz_nar vz_0) (Nat.le_refl _) (Nat.le_refl _) dX1_holds_13)
  · replace h := h.2 n_9 rfl
    refine lv_ifnonnull (tgt := 14) hx hb dX1_holds_9 (by decide) ?_
    refine lv_aload_n hx hb dX1_holds_14 rfl (lv_at hl 0 rfl) ?_
    obtain ⟨p_10, e_11, h⟩ := bO_e h
    refine vg_r S hK hV fX1_49 e_11 dX1_holds_15 ?_
    obtain ⟨n_12, z_n_12, h9⟩ := bO_e h
    clear h; subst z_n_12; have h := h9; clear h9
    obtain ⟨p_13, e_14, h⟩ := bO_e h
    refine vg_r S hK hV fX1_338 e_14 dX1_holds_18 ?_
    refine lv_iload_n hx hb dX1_holds_21 rfl (lv_at hl 1 rfl) ?_
    obtain ⟨n_15, z_n_15, h9⟩ := bO_e h
    clear h; subst z_n_15; have h := h9; clear h9
    obtain ⟨p_16, e_17, h⟩ := bO_e h
    refine vl_r S hK hV 5 rfl e_17 dX1_holds_22 ?_
    refine lv_aload_n hx hb dX1_holds_23 rfl (lv_at hl 0 rfl) ?_
    obtain ⟨p_18, e_19, h⟩ := bO_e h
    refine vg_r S hK hV fX1_53 e_19 dX1_holds_24 ?_
    obtain ⟨n_20, z_n_20, h9⟩ := bO_e h
    clear h; subst z_n_20; have h := h9; clear h9
    obtain ⟨n_21, z_n_21, h9⟩ := bO_e h
    clear h; subst z_n_21; have h := h9; clear h9
    refine vy_l (vr_of (rest := []) S hK hG hA hV hS q1228 (pm_all l 80 _ _ _ _ _ h) ⟨Nat.le_of_ble_eq_true rfl, Nat.le_of_ble_eq_true rfl⟩ hl.1 (Nat.le_of_ble_eq_true rfl) dX1_holds_27 ⟨Nat.le_refl _, Nat.le_refl _⟩) hS ?_ (fun r_22 V_23 H locs h hV hS => ?_)
    · intro k9 q_24 V_25 H locs ce hp hV hS h1 h2 h3
      obtain ⟨rfl, h⟩ := hp
      refine vx_catch (E := exN 1) (name := "SaidSo$Trouble") S.2.2.2.1 [] ⟨14, 40, 41, 366⟩ [] htab (fun z hz => by cases hz) (by decide) (by decide) (S.2.2.2.2 _ q1212) (va_Nw.use rfl (hK.2.2.2.1 _ (List.mem_of_getElem? (i := 24) rfl))) h1 h2 h3 ?_
      refine W.eq (g2 := F0 m 41 ls [.ref q_24]) rfl ?_
      refine lv_astore_n (lv' := [(2, .ref q_24), (0, .ref a0), (1, .int a1)]) hx hb dX1_holds_41 rfl hl (by decide) rfl (fun ls hl => ?_)
      refine lv_iconst hx hb dX1_holds_42 kc_0 ?_
      exact vx_ret (ve_i S hlocks hret hV hS h (vz_nar vz_0) (Nat.le_refl _) (Nat.le_refl _) dX1_holds_43)
    refine lv_lconst (v := 0) hx hb dX1_holds_30 rfl ?_
    refine W.lcmp hx hb dX1_holds_31 ?_
    refine lv_if_eq (tgt := 39) hx hb dX1_holds_32 (by decide) (fun c_26 => ?_) (fun c_26 => ?_)
    · replace h := h.1 ((lg_cmp_eq _ _).mp c_26)
      refine lv_iconst hx hb dX1_holds_39 kc_0 ?_
      exact vx_ret (ve_i S hlocks hret hV hS h (vz_nar vz_0) (Nat.le_refl _) (Nat.le_refl _) dX1_holds_40)
    · replace h := h.2 (fun q => c_26 ((lg_cmp_eq _ _).mpr q))
      refine lv_iconst hx hb dX1_holds_35 kc_1 ?_
      refine lv_goto (tgt := 40) hx hb dX1_holds_36 (by decide) ?_
      exact vx_ret (ve_i S hlocks hret hV hS h (vz_nar vz_1) (Nat.le_refl _) (Nat.le_refl _) dX1_holds_40)
def vX1_isBarred (cA : Nat → ClassId) (a0 : Nat) (a1 : Int32) (V : VS) (Post : Int32 → VS → Prop) : Prop := bO (vO V [1] a0) (fun o_3 => vX1_hearTalk cA a0 a1 (0 : Int32) V (fun V_2 => bO (vO V_2 [1] a0) (fun o_7 => vX1_holds cA a0 (1 : Int32) V_2 (fun r_5 V_6 => vz r_5 ∧ Post r_5 V_6) (fun _ _ _ => False))))
abbrev rX1_isBarred : Room := { frames := 92, cells := 0, slots := 0, locals := 5182 }
theorem cdX1_isBarred : yX1_isBarred.cls = RX1 ∧ yX1_isBarred.cls ≠ "java/lang/invoke/MethodHandle" ∧ yX1_isBarred.cls ≠ "java/lang/invoke/VarHandle" ∧ (parseMethodDescriptor yX1_isBarred.desc).map (fun d => d.parameters.length) = some 1 := by decide +kernel
set_option maxHeartbeats 4000000 in
set_option maxRecDepth 100000 in
theorem mvX1_isBarred (l : Launch) {D : va_G} {cA : Nat → ClassId} {A : Nat → Prop} (a0 : Nat) (a1 : Int32) (V : VS) (Post : Int32 → VS → Prop) (h : vX1_isBarred cA a0 a1 V Post) : Met l yX1_isBarred (ws_ yX1_isBarred cX1_isBarred 2 (some (.boolean))) rX1_isBarred (vPc [.ref a0, .int a1] D cA A V) (va_Qi Post (vB D A) A) 0 0 A := by
  refine vstM (own := RX1) (by decide) rfl (Nat.le_of_ble_eq_true rfl) ?_
  intro p e s m args below meth c ls X hret hV hS hl
  obtain ⟨S, hK, hG, hA, hnm, hlocks⟩ := X
  have hx := S.1
  have hb := S.2.1
  have hl : lv_has ls 2 [(0, .ref a0), (1, .int a1)] := hl
  unfold vX1_isBarred at h
  refine lv_aload_n hx hb dX1_isBarred_0 rfl (lv_at hl 0 rfl) ?_
  refine lv_iload_n hx hb dX1_isBarred_1 rfl (lv_at hl 1 rfl) ?_
  refine lv_iconst hx hb dX1_isBarred_2 kc_0 ?_
  obtain ⟨o_3, e_4, h⟩ := bO_e h
  refine vk_v (vr_V (As := [.int a1, .int (0 : Int32)]) (rest := []) S hK hG hA hV hS e_4 rfl (mvX1_hearTalk l a0 a1 (0 : Int32) V _ h) (cwV 2 S.2.2.2.2 (lw_V q1291 q1293 qs57 q139 q1294) rfl rfl rfl cdX1_hearTalk ⟨Nat.le_of_ble_eq_true rfl, Nat.le_of_ble_eq_true rfl⟩) rfl hl.1 (Nat.le_of_ble_eq_true rfl) dX1_isBarred_3 ⟨Nat.le_refl _, Nat.le_refl _⟩) hS (fun V_2 H locs h hV hS => ?_)
  refine lv_aload_n hx hb dX1_isBarred_6 rfl (lv_at hl 0 rfl) ?_
  refine lv_iconst hx hb dX1_isBarred_7 kc_1 ?_
  obtain ⟨o_7, e_8, h⟩ := bO_e h
  refine vy_i (vr_VH (As := [.int (1 : Int32)]) (rest := []) S hK hG hA hV hS e_8 rfl (mvX1_holds l a0 (1 : Int32) V_2 _ _ h) (vx_cwVW 1 S.2.2.2.2 (lw_VW q1299 q1301 qs59 q139 q1302) rfl rfl rfl cdX1_holds ⟨Nat.le_of_ble_eq_true rfl, Nat.le_of_ble_eq_true rfl⟩) rfl hl.1 (Nat.le_of_ble_eq_true rfl) dX1_isBarred_8 ⟨Nat.le_refl _, Nat.le_refl _⟩) hS (fun k q V1 H1 l1 ce h => h.elim) (fun r_5 V_6 H locs h hV hS => ?_)
  exact ve_i S hlocks hret hV hS h.2 (vz_nar h.1) (Nat.le_refl _) (Nat.le_refl _) dX1_isBarred_11
def vX1_barred (cA : Nat → ClassId) (a0 : Nat) (a1 : Int32) (V : VS) (Post : Int32 → VS → Prop) : Prop := bO (vO V [1] a0) (fun o_3 => vX1_isTeller cA a0 a1 V (fun r_1 V_2 => (r_1 = 0 → (Post (-1 : Int32) V_2)) ∧ (¬ (r_1 = 0) → (bO (vO V_2 [1] a0) (fun o_8 => vX1_isBarred cA a0 a1 V_2 (fun r_6 V_7 => (r_6 = 0 → (Post (0 : Int32) V_7)) ∧ (¬ (r_6 = 0) → (Post (1 : Int32) V_7))))))))
abbrev rX1_barred : Room := { frames := 93, cells := 0, slots := 0, locals := 5203 }
theorem cdX1_barred : yX1_barred.cls = RX1 ∧ yX1_barred.cls ≠ "java/lang/invoke/MethodHandle" ∧ yX1_barred.cls ≠ "java/lang/invoke/VarHandle" ∧ (parseMethodDescriptor yX1_barred.desc).map (fun d => d.parameters.length) = some 1 := by decide +kernel
set_option maxHeartbeats 4000000 in
set_option maxRecDepth 100000 in
theorem mvX1_barred (l : Launch) {D : va_G} {cA : Nat → ClassId} {A : Nat → Prop} (a0 : Nat) (a1 : Int32) (V : VS) (Post : Int32 → VS → Prop) (h : vX1_barred cA a0 a1 V Post) : Met l yX1_barred (ws_ yX1_barred cX1_barred 2 (some (.int))) rX1_barred (vPc [.ref a0, .int a1] D cA A V) (va_Qi Post (vB D A) A) 0 0 A := by
  refine vstM (own := RX1) (by decide) rfl (Nat.le_of_ble_eq_true rfl) ?_
  intro p e s m args below meth c ls X hret hV hS hl
  obtain ⟨S, hK, hG, hA, hnm, hlocks⟩ := X
  have hx := S.1
  have hb := S.2.1
  have hl : lv_has ls 2 [(0, .ref a0), (1, .int a1)] := hl
  unfold vX1_barred at h
  refine lv_aload_n hx hb dX1_barred_0 rfl (lv_at hl 0 rfl) ?_
  refine lv_iload_n hx hb dX1_barred_1 rfl (lv_at hl 1 rfl) ?_
  obtain ⟨o_3, e_4, h⟩ := bO_e h
  refine vk_i (vr_V (As := [.int a1]) (rest := []) S hK hG hA hV hS e_4 rfl (mvX1_isTeller l a0 a1 V _ h) (cwV 1 S.2.2.2.2 (lw_V q968 q970 qs31 q139 q971) rfl rfl rfl cdX1_isTeller ⟨Nat.le_of_ble_eq_true rfl, Nat.le_of_ble_eq_true rfl⟩) rfl hl.1 (Nat.le_of_ble_eq_true rfl) dX1_barred_2 ⟨Nat.le_refl _, Nat.le_refl _⟩) hS (fun r_1 V_2 H locs h hV hS => ?_)
  refine lv_if_ne (tgt := 12) hx hb dX1_barred_5 (by decide) (fun c_5 => ?_) (fun c_5 => ?_)
  · replace h := h.2 c_5
    refine lv_aload_n hx hb dX1_barred_12 rfl (lv_at hl 0 rfl) ?_
    refine lv_iload_n hx hb dX1_barred_13 rfl (lv_at hl 1 rfl) ?_
    obtain ⟨o_8, e_9, h⟩ := bO_e h
    refine vk_i (vr_V (As := [.int a1]) (rest := []) S hK hG hA hV hS e_9 rfl (mvX1_isBarred l a0 a1 V_2 _ h) (cwV 1 S.2.2.2.2 (lw_V q1287 q1289 qs56 q139 q1290) rfl rfl rfl cdX1_isBarred ⟨Nat.le_of_ble_eq_true rfl, Nat.le_of_ble_eq_true rfl⟩) rfl hl.1 (Nat.le_of_ble_eq_true rfl) dX1_barred_14 ⟨Nat.le_refl _, Nat.le_refl _⟩) hS (fun r_6 V_7 H locs h hV hS => ?_)
    refine lv_if_eq (tgt := 24) hx hb dX1_barred_17 (by decide) (fun c_10 => ?_) (fun c_10 => ?_)
    · replace h := h.1 c_10
      refine lv_iconst hx hb dX1_barred_24 kc_0 ?_
      exact ve_i S hlocks hret hV hS h rfl (Nat.le_refl _) (Nat.le_refl _) dX1_barred_25
    · replace h := h.2 c_10
      refine lv_iconst hx hb dX1_barred_20 kc_1 ?_
      refine lv_goto (tgt := 25) hx hb dX1_barred_21 (by decide) ?_
      exact ve_i S hlocks hret hV hS h rfl (Nat.le_refl _) (Nat.le_refl _) dX1_barred_25
  · replace h := h.1 c_5
    refine lv_iconst hx hb dX1_barred_8 kc_m1 ?_
    refine lv_goto (tgt := 25) hx hb dX1_barred_9 (by decide) ?_
    exact ve_i S hlocks hret hV hS h rfl (Nat.le_refl _) (Nat.le_refl _) dX1_barred_25
def vX1_hearPage_c140 (cA : Nat → ClassId) (a0 : Nat) (a1 : Int32) (k92 : Int32 → VS → Prop) (Post : VS → Prop) (x2 : Int32) (t0 : Int64) (t1 : Int64) (t2 : Int32) (t3 : Nat) (V : VS) : Prop := bO (tJ V (cA 2) t3 t2 (t1 + t0)) (fun V_61 => ∀ v_63 : Int32, v_63 = x2 + (1 : Int32) → k92 v_63 V_61)
def vX1_hearPage_l92 (cA : Nat → ClassId) (a0 : Nat) (a1 : Int32) (Post : VS → Prop) : Nat → Int32 → VS → Prop
  | 0, _, _ => False
  | n + 1, x2, V => bO (gR V [1] a0 11) (fun p_29 => bO p_29 (fun n_31 => bO (gR V [3] n_31 3) (fun p_32 => bO p_32 (fun n_34 => bO (vO V [14] n_34) (fun o_37 => vJ2_size cA n_34 V (fun r_35 V_36 => (r_35 ≤ x2 → (Post V_36)) ∧ (¬ (r_35 ≤ x2) → (bO (gR V_36 [1] a0 12) (fun p_40 => bO p_40 (fun n_42 => bO (lJ V_36 (cA 2) n_42 (9 : Int32)) (fun g_43 => bO (gR V_36 [1] a0 11) (fun p_45 => bO p_45 (fun n_47 => bO (gR V_36 [3] n_47 3) (fun p_48 => bO p_48 (fun n_50 => bO (vO V_36 [14] n_50) (fun o_53 => vJ2_get cA n_50 x2 V_36 (fun p_51 V_52 => bO p_51 (fun n_55 => bO (vO V_52 [9] n_55) (fun o_56 => bO (gI V_52 [9] n_55 0) (fun g_58 => (g_58 = a1 → (vX1_hearPage_c140 cA a0 a1 (vX1_hearPage_l92 cA a0 a1 Post n) Post x2 (1 : Int64) g_43 (9 : Int32) n_42 V_52)) ∧ (¬ (g_58 = a1) → (vX1_hearPage_c140 cA a0 a1 (vX1_hearPage_l92 cA a0 a1 Post n) Post x2 (0 : Int64) g_43 (9 : Int32) n_42 V_52))))))))))))))))))))))
def vX1_hearPage_c84 (cA : Nat → ClassId) (a0 : Nat) (a1 : Int32) (k20 : Int32 → VS → Prop) (Post : VS → Prop) (x2 : Int32) (V : VS) : Prop := ∀ v_69 : Int32, v_69 = x2 + (1 : Int32) → k20 v_69 V
def vX1_hearPage_c79 (cA : Nat → ClassId) (a0 : Nat) (a1 : Int32) (k20 : Int32 → VS → Prop) (Post : VS → Prop) (x2 : Int32) (t0 : Int32) (t1 : Option Nat) (V : VS) : Prop := bO t1 (fun n_90 => bO (lJ V (cA 2) n_90 t0) (fun g_91 => bO (tJ V (cA 2) n_90 t0 (g_91 + (1 : Int64))) (fun V_93 => vX1_hearPage_c84 cA a0 a1 k20 Post x2 V_93)))
def vX1_hearPage_l20 (cA : Nat → ClassId) (a0 : Nat) (a1 : Int32) (Post : VS → Prop) : Nat → Int32 → VS → Prop
  | 0, _, _ => False
  | n + 1, x2, V => bO (gR V [1] a0 11) (fun p_18 => bO p_18 (fun n_20 => bO (gR V [3] n_20 0) (fun p_21 => bO p_21 (fun n_23 => bO (vO V [14] n_23) (fun o_26 => vJ2_size cA n_23 V (fun r_24 V_25 => (r_24 ≤ x2 → (∃ f, vX1_hearPage_l92 cA a0 a1 Post f (0 : Int32) V_25)) ∧ (¬ (r_24 ≤ x2) → (bO (vO V_25 [1] a0) (fun o_66 => vX1_firstPage cA a0 a1 x2 V_25 (fun p_64 V_65 => (p_64 = none → (vX1_hearPage_c84 cA a0 a1 (vX1_hearPage_l20 cA a0 a1 Post n) Post x2 V_65)) ∧ (∀ n_68 : Nat, p_64 = some n_68 → (bO (gR V_65 [1] a0 12) (fun p_70 => bO (gI V_65 [9] n_68 2) (fun g_72 => bO (gR V_65 [1] a0 11) (fun p_74 => bO p_74 (fun n_76 => bO (gR V_65 [3] n_76 0) (fun p_77 => bO p_77 (fun n_79 => bO (vO V_65 [14] n_79) (fun o_82 => vJ2_get cA n_79 x2 V_65 (fun p_80 V_81 => bO p_80 (fun n_84 => bO (vO V_81 [5] n_84) (fun o_85 => bO (gI V_81 [5] n_84 2) (fun g_87 => (g_72 = g_87 → (vX1_hearPage_c79 cA a0 a1 (vX1_hearPage_l20 cA a0 a1 Post n) Post x2 (5 : Int32) p_70 V_81)) ∧ (¬ (g_72 = g_87) → (vX1_hearPage_c79 cA a0 a1 (vX1_hearPage_l20 cA a0 a1 Post n) Post x2 (6 : Int32) p_70 V_81)))))))))))))))))))))))))
def vX1_hearPage (cA : Nat → ClassId) (a0 : Nat) (a1 : Int32) (V : VS) (Post : VS → Prop) : Prop := bO (gR V [1] a0 11) (fun p_1 => bO p_1 (fun n_3 => bO (gR V [3] n_3 1) (fun p_4 => bO p_4 (fun n_6 => bO (vO V [14] n_6) (fun o_9 => vJ2_get cA n_6 a1 V (fun p_7 V_8 => bO p_7 (fun n_11 => bO (vO V_8 [6] n_11) (fun o_12 => bO (vO V_8 [1] a0) (fun o_16 => vX1_nothing cA a0 n_11 V_8 (fun V_15 => ∃ f, vX1_hearPage_l20 cA a0 a1 Post f (0 : Int32) V_15))))))))))
abbrev rX1_hearPage : Room := { frames := 4, cells := 0, slots := 0, locals := 87 }
theorem cdX1_hearPage : yX1_hearPage.cls = RX1 ∧ yX1_hearPage.cls ≠ "java/lang/invoke/MethodHandle" ∧ yX1_hearPage.cls ≠ "java/lang/invoke/VarHandle" ∧ (parseMethodDescriptor yX1_hearPage.desc).map (fun d => d.parameters.length) = some 1 := by decide +kernel
set_option maxHeartbeats 4000000 in
set_option maxRecDepth 100000 in
theorem mvX1_hearPage (l : Launch) {D : va_G} {cA : Nat → ClassId} {A : Nat → Prop} (a0 : Nat) (a1 : Int32) (V : VS) (Post : VS → Prop) (h : vX1_hearPage cA a0 a1 V Post) : Met l yX1_hearPage (ws_ yX1_hearPage cX1_hearPage 4 none) rX1_hearPage (vPc [.ref a0, .int a1] D cA A V) (va_Qv Post (vB D A) A) 0 0 A := by
  refine vstM (own := RX1) (by decide) rfl (Nat.le_of_ble_eq_true rfl) ?_
  intro p e s m args below meth c ls X hret hV hS hl
  obtain ⟨S, hK, hG, hA, hnm, hlocks⟩ := X
  have hx := S.1
  have hb := S.2.1
  have hl : lv_has ls 4 [(0, .ref a0), (1, .int a1)] := hl
  have C140 : ∀ (k92 : Int32 → VS → Prop) (K92 : (∀ (x2 : Int32) (V : VS) (H : Heap) (locs : List Loc) (ls : Array Slot), HV D A V H → va_S A s.heap H locs → lv_has ls 4 [(0, .ref a0), (1, .int a1), (2, .int x2)] → k92 x2 V → W p l e rX1_hearPage s m args below meth c H locs 0 0 (MQ below (va_Qv Post (vB D A) A) args s 0 0 A) (F0 m 92 ls []))), ∀ (x2 : Int32) (t0 : Int64) (t1 : Int64) (t2 : Int32) (t3 : Nat) (V : VS) (H : Heap) (locs : List Loc) (ls : Array Slot), HV D A V H → va_S A s.heap H locs → lv_has ls 4 [(0, .ref a0), (1, .int a1), (2, .int x2)] → vX1_hearPage_c140 cA a0 a1 k92 Post x2 t0 t1 t2 t3 V → W p l e rX1_hearPage s m args below meth c H locs 0 0 (MQ below (va_Qv Post (vB D A) A) args s 0 0 A) (F0 m 140 ls [.long t0, .long t1, .int t2, .ref t3]) := by
    intro k92 K92
    intro x2 t0 t1 t2 t3 V H locs ls hV hS hl h
    unfold vX1_hearPage_c140 at h
    refine lv_ladd hx hb dX1_hearPage_140 ?_
    obtain ⟨V_61, e_62, h⟩ := bO_e h
    refine vs_l S hK hV hS e_62 dX1_hearPage_141 (fun H locs hV hS => ?_)
    obtain ⟨v_63, e_v_63⟩ : ∃ y : Int32, y = x2 + (1 : Int32) := ⟨_, rfl⟩
    replace h := h v_63 e_v_63
    refine lv_iinc (v := v_63) (lv' := [(2, .int v_63), (0, .ref a0), (1, .int a1)]) hx hb dX1_hearPage_142 hl (k := 2) rfl (by rw [kc_1, e_v_63]) (by decide) rfl (fun ls hl => ?_)
    refine lv_goto (tgt := 92) hx hb dX1_hearPage_145 (by decide) ?_
    exact K92 _ _ _ _ _ hV hS (lv_sub hl [1, 2, 0] rfl) h
  have L92 : ∀ (n : Nat) (x2 : Int32) (V : VS) (H : Heap) (locs : List Loc) (ls : Array Slot), HV D A V H → va_S A s.heap H locs → lv_has ls 4 [(0, .ref a0), (1, .int a1), (2, .int x2)] → vX1_hearPage_l92 cA a0 a1 Post n x2 V → W p l e rX1_hearPage s m args below meth c H locs 0 0 (MQ below (va_Qv Post (vB D A) A) args s 0 0 A) (F0 m 92 ls []) := by
    intro n
    induction n with
    | zero => intro x2 V H locs ls hV hS hl h; rw [vX1_hearPage_l92] at h; exact h.elim
    | succ n ih =>
      intro x2 V H locs ls hV hS hl h
      rw [vX1_hearPage_l92] at h
      refine lv_iload_n hx hb dX1_hearPage_92 rfl (lv_at hl 2 rfl) ?_
      refine lv_aload_n hx hb dX1_hearPage_93 rfl (lv_at hl 0 rfl) ?_
      obtain ⟨p_29, e_30, h⟩ := bO_e h
      refine vg_r S hK hV fX1_49 e_30 dX1_hearPage_94 ?_
      obtain ⟨n_31, z_n_31, h9⟩ := bO_e h
      clear h; subst z_n_31; have h := h9; clear h9
      obtain ⟨p_32, e_33, h⟩ := bO_e h
      refine vg_r S hK hV fX1_281 e_33 dX1_hearPage_97 ?_
      obtain ⟨n_34, z_n_34, h9⟩ := bO_e h
      clear h; subst z_n_34; have h := h9; clear h9
      obtain ⟨o_37, e_38, h⟩ := bO_e h
      refine vk_i (vr_V (As := []) (rest := [.int x2]) S hK hG hA hV hS e_38 rfl (mvJ2_size l n_34 V _ h) (cwV 0 S.2.2.2.2 (lw_V q972 q591 q592 q144 q593) rfl rfl rfl cdJ2_size ⟨Nat.le_of_ble_eq_true rfl, Nat.le_of_ble_eq_true rfl⟩) rfl hl.1 (Nat.le_of_ble_eq_true rfl) dX1_hearPage_100 ⟨Nat.le_refl _, Nat.le_refl _⟩) hS (fun r_35 V_36 H locs h hV hS => ?_)
      refine lv_icmp_ge (tgt := 148) hx hb dX1_hearPage_103 (by decide) (fun c_39 => ?_) (fun c_39 => ?_)
      · replace h := h.1 c_39
        exact ve_v S hlocks hret hV hS h (Nat.le_refl _) (Nat.le_refl _) dX1_hearPage_148
      · replace h := h.2 c_39
        refine lv_aload_n hx hb dX1_hearPage_106 rfl (lv_at hl 0 rfl) ?_
        obtain ⟨p_40, e_41, h⟩ := bO_e h
        refine vg_r S hK hV fX1_53 e_41 dX1_hearPage_107 ?_
        refine lv_bipush hx hb dX1_hearPage_110 kb_9 ?_
        obtain ⟨n_42, z_n_42, h9⟩ := bO_e h
        clear h; subst z_n_42; have h := h9; clear h9
        refine lv_dup2_11 hx hb dX1_hearPage_112 rfl rfl ?_
        obtain ⟨g_43, e_44, h⟩ := bO_e h
        refine vl_l S hK hV e_44 dX1_hearPage_113 ?_
        refine lv_aload_n hx hb dX1_hearPage_114 rfl (lv_at hl 0 rfl) ?_
        obtain ⟨p_45, e_46, h⟩ := bO_e h
        refine vg_r S hK hV fX1_49 e_46 dX1_hearPage_115 ?_
        obtain ⟨n_47, z_n_47, h9⟩ := bO_e h
        clear h; subst z_n_47; have h := h9; clear h9
        obtain ⟨p_48, e_49, h⟩ := bO_e h
        refine vg_r S hK hV fX1_281 e_49 dX1_hearPage_118 ?_
        refine lv_iload_n hx hb dX1_hearPage_121 rfl (lv_at hl 2 rfl) ?_
        obtain ⟨n_50, z_n_50, h9⟩ := bO_e h
        clear h; subst z_n_50; have h := h9; clear h9
        obtain ⟨o_53, e_54, h⟩ := bO_e h
        refine vk_q (vr_V (As := [.int x2]) (rest := [.long g_43, .int (9 : Int32), .ref n_42]) S hK hG hA hV hS e_54 rfl (mvJ2_get l n_50 x2 V_36 _ h) (cwV 1 S.2.2.2.2 (lw_V q973 q608 q609 q144 q610) rfl rfl rfl cdJ2_get ⟨Nat.le_of_ble_eq_true rfl, Nat.le_of_ble_eq_true rfl⟩) rfl hl.1 (Nat.le_of_ble_eq_true rfl) dX1_hearPage_122 ⟨Nat.le_refl _, Nat.le_refl _⟩) hS (fun p_51 V_52 H locs h hV hS => ?_)
        obtain ⟨n_55, z_n_55, h9⟩ := bO_e h
        clear h; subst z_n_55; have h := h9; clear h9
        obtain ⟨o_56, e_57, h⟩ := bO_e h
        refine v_cast S hK hV e_57 ct_SaidSo_Page q1139 dX1_hearPage_125 ?_
        obtain ⟨g_58, e_59, h⟩ := bO_e h
        refine vg_i S hK hV fX1_286 e_59 dX1_hearPage_128 ?_
        refine lv_iload_n hx hb dX1_hearPage_131 rfl (lv_at hl 1 rfl) ?_
        refine lv_icmp_ne (tgt := 139) hx hb dX1_hearPage_132 (by decide) (fun c_60 => ?_) (fun c_60 => ?_)
        · replace h := h.2 c_60
          refine lv_lconst (v := 0) hx hb dX1_hearPage_139 rfl ?_
          exact C140 _ ih _ _ _ _ _ _ _ _ _ hV hS (lv_sub hl [0, 1, 2] rfl) h
        · replace h := h.1 c_60
          refine lv_lconst (v := 1) hx hb dX1_hearPage_135 rfl ?_
          refine lv_goto (tgt := 140) hx hb dX1_hearPage_136 (by decide) ?_
          exact C140 _ ih _ _ _ _ _ _ _ _ _ hV hS (lv_sub hl [0, 1, 2] rfl) h
  have C84 : ∀ (k20 : Int32 → VS → Prop) (K20 : (∀ (x2 : Int32) (V : VS) (H : Heap) (locs : List Loc) (ls : Array Slot), HV D A V H → va_S A s.heap H locs → lv_has ls 4 [(0, .ref a0), (1, .int a1), (2, .int x2)] → k20 x2 V → W p l e rX1_hearPage s m args below meth c H locs 0 0 (MQ below (va_Qv Post (vB D A) A) args s 0 0 A) (F0 m 20 ls []))), ∀ (x2 : Int32) (V : VS) (H : Heap) (locs : List Loc) (ls : Array Slot), HV D A V H → va_S A s.heap H locs → lv_has ls 4 [(0, .ref a0), (1, .int a1), (2, .int x2)] → vX1_hearPage_c84 cA a0 a1 k20 Post x2 V → W p l e rX1_hearPage s m args below meth c H locs 0 0 (MQ below (va_Qv Post (vB D A) A) args s 0 0 A) (F0 m 84 ls []) := by
    intro k20 K20
    intro x2 V H locs ls hV hS hl h
    unfold vX1_hearPage_c84 at h
    obtain ⟨v_69, e_v_69⟩ : ∃ y : Int32, y = x2 + (1 : Int32) := ⟨_, rfl⟩
    replace h := h v_69 e_v_69
    refine lv_iinc (v := v_69) (lv' := [(2, .int v_69), (0, .ref a0), (1, .int a1)]) hx hb dX1_hearPage_84 hl (k := 2) rfl (by rw [kc_1, e_v_69]) (by decide) rfl (fun ls hl => ?_)
    refine lv_goto (tgt := 20) hx hb dX1_hearPage_87 (by decide) ?_
    exact K20 _ _ _ _ _ hV hS (lv_sub hl [1, 2, 0] rfl) h
  have C79 : ∀ (k20 : Int32 → VS → Prop) (K20 : (∀ (x2 : Int32) (V : VS) (H : Heap) (locs : List Loc) (ls : Array Slot), HV D A V H → va_S A s.heap H locs → lv_has ls 4 [(0, .ref a0), (1, .int a1), (2, .int x2)] → k20 x2 V → W p l e rX1_hearPage s m args below meth c H locs 0 0 (MQ below (va_Qv Post (vB D A) A) args s 0 0 A) (F0 m 20 ls []))), ∀ (x2 : Int32) (t0 : Int32) (t1 : Option Nat) (V : VS) (H : Heap) (locs : List Loc) (ls : Array Slot), HV D A V H → va_S A s.heap H locs → lv_has ls 4 [(0, .ref a0), (1, .int a1), (2, .int x2)] → vX1_hearPage_c79 cA a0 a1 k20 Post x2 t0 t1 V → W p l e rX1_hearPage s m args below meth c H locs 0 0 (MQ below (va_Qv Post (vB D A) A) args s 0 0 A) (F0 m 79 ls [.int t0, va_rf t1]) := by
    intro k20 K20
    intro x2 t0 t1 V H locs ls hV hS hl h
    unfold vX1_hearPage_c79 at h
    obtain ⟨n_90, z_n_90, h9⟩ := bO_e h
    clear h; subst z_n_90; have h := h9; clear h9
    refine lv_dup2_11 hx hb dX1_hearPage_79 rfl rfl ?_
    obtain ⟨g_91, e_92, h⟩ := bO_e h
    refine vl_l S hK hV e_92 dX1_hearPage_80 ?_
    refine lv_lconst (v := 1) hx hb dX1_hearPage_81 rfl ?_
    refine lv_ladd hx hb dX1_hearPage_82 ?_
    obtain ⟨V_93, e_94, h⟩ := bO_e h
    refine vs_l S hK hV hS e_94 dX1_hearPage_83 (fun H locs hV hS => ?_)
    exact C84 _ K20 _ _ _ _ _ hV hS (lv_sub hl [0, 1, 2] rfl) h
  have L20 : ∀ (n : Nat) (x2 : Int32) (V : VS) (H : Heap) (locs : List Loc) (ls : Array Slot), HV D A V H → va_S A s.heap H locs → lv_has ls 4 [(0, .ref a0), (1, .int a1), (2, .int x2)] → vX1_hearPage_l20 cA a0 a1 Post n x2 V → W p l e rX1_hearPage s m args below meth c H locs 0 0 (MQ below (va_Qv Post (vB D A) A) args s 0 0 A) (F0 m 20 ls []) := by
    intro n
    induction n with
    | zero => intro x2 V H locs ls hV hS hl h; rw [vX1_hearPage_l20] at h; exact h.elim
    | succ n ih =>
      intro x2 V H locs ls hV hS hl h
      rw [vX1_hearPage_l20] at h
      refine lv_iload_n hx hb dX1_hearPage_20 rfl (lv_at hl 2 rfl) ?_
      refine lv_aload_n hx hb dX1_hearPage_21 rfl (lv_at hl 0 rfl) ?_
      obtain ⟨p_18, e_19, h⟩ := bO_e h
      refine vg_r S hK hV fX1_49 e_19 dX1_hearPage_22 ?_
      obtain ⟨n_20, z_n_20, h9⟩ := bO_e h
      clear h; subst z_n_20; have h := h9; clear h9
      obtain ⟨p_21, e_22, h⟩ := bO_e h
      refine vg_r S hK hV fX1_125 e_22 dX1_hearPage_25 ?_
      obtain ⟨n_23, z_n_23, h9⟩ := bO_e h
      clear h; subst z_n_23; have h := h9; clear h9
      obtain ⟨o_26, e_27, h⟩ := bO_e h
      refine vk_i (vr_V (As := []) (rest := [.int x2]) S hK hG hA hV hS e_27 rfl (mvJ2_size l n_23 V _ h) (cwV 0 S.2.2.2.2 (lw_V q972 q591 q592 q144 q593) rfl rfl rfl cdJ2_size ⟨Nat.le_of_ble_eq_true rfl, Nat.le_of_ble_eq_true rfl⟩) rfl hl.1 (Nat.le_of_ble_eq_true rfl) dX1_hearPage_28 ⟨Nat.le_refl _, Nat.le_refl _⟩) hS (fun r_24 V_25 H locs h hV hS => ?_)
      refine lv_icmp_ge (tgt := 90) hx hb dX1_hearPage_31 (by decide) (fun c_28 => ?_) (fun c_28 => ?_)
      · replace h := h.1 c_28
        refine lv_iconst hx hb dX1_hearPage_90 kc_0 ?_
        refine lv_istore_n (lv' := [(2, .int (0 : Int32)), (0, .ref a0), (1, .int a1)]) hx hb dX1_hearPage_91 rfl hl (by decide) rfl (fun ls hl => ?_)
        obtain ⟨f, h⟩ := h
        exact L92 f _ _ _ _ _ hV hS (lv_sub hl [1, 2, 0] rfl) h
      · replace h := h.2 c_28
        refine lv_aload_n hx hb dX1_hearPage_34 rfl (lv_at hl 0 rfl) ?_
        refine lv_iload_n hx hb dX1_hearPage_35 rfl (lv_at hl 1 rfl) ?_
        refine lv_iload_n hx hb dX1_hearPage_36 rfl (lv_at hl 2 rfl) ?_
        obtain ⟨o_66, e_67, h⟩ := bO_e h
        refine vk_q (vr_V (As := [.int a1, .int x2]) (rest := []) S hK hG hA hV hS e_67 rfl (mvX1_firstPage l a0 a1 x2 V_25 _ h) (cwV 2 S.2.2.2.2 (lw_V q1135 q1137 qs44 q139 q1138) rfl rfl rfl cdX1_firstPage ⟨Nat.le_of_ble_eq_true rfl, Nat.le_of_ble_eq_true rfl⟩) rfl hl.1 (Nat.le_of_ble_eq_true rfl) dX1_hearPage_37 ⟨Nat.le_refl _, Nat.le_refl _⟩) hS (fun p_64 V_65 H locs h hV hS => ?_)
        refine lv_astore_nQ (r := p_64) (lv' := [(3, va_rf p_64), (0, .ref a0), (1, .int a1), (2, .int x2)]) hx hb dX1_hearPage_40 rfl hl (by decide) rfl (fun ls hl => ?_)
        refine lv_aload_nQ hx hb dX1_hearPage_41 rfl (lv_at hl 0 rfl) ?_
        rcases p_64 with _ | n_68
        · replace h := h.1 rfl
          refine lv_ifnullN (tgt := 84) hx hb dX1_hearPage_42 (by decide) ?_
          exact C84 _ ih _ _ _ _ _ hV hS (lv_sub hl [1, 2, 3] rfl) h
        · replace h := h.2 n_68 rfl
          refine lv_ifnull hx hb dX1_hearPage_42 ?_
          refine lv_aload_n hx hb dX1_hearPage_45 rfl (lv_at hl 1 rfl) ?_
          obtain ⟨p_70, e_71, h⟩ := bO_e h
          refine vg_r S hK hV fX1_53 e_71 dX1_hearPage_46 ?_
          refine lv_aload_n hx hb dX1_hearPage_49 rfl (lv_at hl 0 rfl) ?_
          obtain ⟨g_72, e_73, h⟩ := bO_e h
          refine vg_i S hK hV fX1_300 e_73 dX1_hearPage_50 ?_
          refine lv_aload_n hx hb dX1_hearPage_53 rfl (lv_at hl 1 rfl) ?_
          obtain ⟨p_74, e_75, h⟩ := bO_e h
          refine vg_r S hK hV fX1_49 e_75 dX1_hearPage_54 ?_
          obtain ⟨n_76, z_n_76, h9⟩ := bO_e h
          clear h; subst z_n_76; have h := h9; clear h9
          obtain ⟨p_77, e_78, h⟩ := bO_e h
          refine vg_r S hK hV fX1_125 e_78 dX1_hearPage_57 ?_
          refine lv_iload_n hx hb dX1_hearPage_60 rfl (lv_at hl 3 rfl) ?_
          obtain ⟨n_79, z_n_79, h9⟩ := bO_e h
          clear h; subst z_n_79; have h := h9; clear h9
          obtain ⟨o_82, e_83, h⟩ := bO_e h
          refine vk_q (vr_V (As := [.int x2]) (rest := [.int g_72, va_rf p_70]) S hK hG hA hV hS e_83 rfl (mvJ2_get l n_79 x2 V_65 _ h) (cwV 1 S.2.2.2.2 (lw_V q973 q608 q609 q144 q610) rfl rfl rfl cdJ2_get ⟨Nat.le_of_ble_eq_true rfl, Nat.le_of_ble_eq_true rfl⟩) rfl hl.1 (by cases p_70 <;> exact Nat.le_of_ble_eq_true rfl) dX1_hearPage_61 ⟨Nat.le_refl _, Nat.le_refl _⟩) hS (fun p_80 V_81 H locs h hV hS => ?_)
          obtain ⟨n_84, z_n_84, h9⟩ := bO_e h
          clear h; subst z_n_84; have h := h9; clear h9
          obtain ⟨o_85, e_86, h⟩ := bO_e h
          refine v_cast S hK hV e_86 ct_SaidSo_Thing q1001 dX1_hearPage_64 ?_
          obtain ⟨g_87, e_88, h⟩ := bO_e h
          refine vg_i S hK hV fX1_144 e_88 dX1_hearPage_67 ?_
          refine lv_icmp_ne (tgt := 77) hx hb dX1_hearPage_70 (by decide) (fun c_89 => ?_) (fun c_89 => ?_)
          · replace h := h.2 c_89
            refine lv_bipush hx hb dX1_hearPage_77 kb_6 ?_
            exact C79 _ ih _ _ _ _ _ _ _ hV hS (lv_sub hl [1, 2, 3] rfl) h
          · replace h := h.1 c_89
            refine lv_iconst hx hb dX1_hearPage_73 kc_5 ?_
            refine lv_goto (tgt := 79) hx hb dX1_hearPage_74 (by decide) ?_
            exact C79 _ ih _ _ _ _ _ _ _ hV hS (lv_sub hl [1, 2, 3] rfl) h
  unfold vX1_hearPage at h
  refine lv_aload_n hx hb dX1_hearPage_0 rfl (lv_at hl 0 rfl) ?_
  refine lv_aload_n hx hb dX1_hearPage_1 rfl (lv_at hl 0 rfl) ?_
  obtain ⟨p_1, e_2, h⟩ := bO_e h
  refine vg_r S hK hV fX1_49 e_2 dX1_hearPage_2 ?_
  obtain ⟨n_3, z_n_3, h9⟩ := bO_e h
  clear h; subst z_n_3; have h := h9; clear h9
  obtain ⟨p_4, e_5, h⟩ := bO_e h
  refine vg_r S hK hV fX1_115 e_5 dX1_hearPage_5 ?_
  refine lv_iload_n hx hb dX1_hearPage_8 rfl (lv_at hl 1 rfl) ?_
  obtain ⟨n_6, z_n_6, h9⟩ := bO_e h
  clear h; subst z_n_6; have h := h9; clear h9
  obtain ⟨o_9, e_10, h⟩ := bO_e h
  refine vk_q (vr_V (As := [.int a1]) (rest := [.ref a0]) S hK hG hA hV hS e_10 rfl (mvJ2_get l n_6 a1 V _ h) (cwV 1 S.2.2.2.2 (lw_V q973 q608 q609 q144 q610) rfl rfl rfl cdJ2_get ⟨Nat.le_of_ble_eq_true rfl, Nat.le_of_ble_eq_true rfl⟩) rfl hl.1 (Nat.le_of_ble_eq_true rfl) dX1_hearPage_9 ⟨Nat.le_refl _, Nat.le_refl _⟩) hS (fun p_7 V_8 H locs h hV hS => ?_)
  obtain ⟨n_11, z_n_11, h9⟩ := bO_e h
  clear h; subst z_n_11; have h := h9; clear h9
  obtain ⟨o_12, e_13, h⟩ := bO_e h
  refine v_cast S hK hV e_13 ct_SaidSo_Teller q974 dX1_hearPage_12 ?_
  obtain ⟨o_16, e_17, h⟩ := bO_e h
  refine vk_v (vr_V (As := [.ref n_11]) (rest := []) S hK hG hA hV hS e_17 rfl (mvX1_nothing l a0 n_11 V_8 _ h) (cwV 1 S.2.2.2.2 (lw_V q1213 q1215 qs52 q139 q1216) rfl rfl rfl cdX1_nothing ⟨Nat.le_of_ble_eq_true rfl, Nat.le_of_ble_eq_true rfl⟩) rfl hl.1 (Nat.le_of_ble_eq_true rfl) dX1_hearPage_15 ⟨Nat.le_refl _, Nat.le_refl _⟩) hS (fun V_15 H locs h hV hS => ?_)
  refine lv_iconst hx hb dX1_hearPage_18 kc_0 ?_
  refine lv_istore_n (lv' := [(2, .int (0 : Int32)), (0, .ref a0), (1, .int a1)]) hx hb dX1_hearPage_19 rfl hl (by decide) rfl (fun ls hl => ?_)
  obtain ⟨f, h⟩ := h
  exact L20 f _ _ _ _ _ hV hS (lv_sub hl [1, 2, 0] rfl) h
def vX1_finds_c27 (cA : Nat → ClassId) (a0 : Nat) (a1 : Int32) (a2 : Int32) (Post : Int32 → VS → Prop) (V : VS) : Prop := bO (vO V [1] a0) (fun o_9 => vX1_holds cA a0 (2 : Int32) V (fun r_7 V_8 => vz r_7 ∧ Post r_7 V_8) (fun _ _ _ => False))
def vX1_finds_c24 (cA : Nat → ClassId) (a0 : Nat) (a1 : Int32) (a2 : Int32) (Post : Int32 → VS → Prop) (t0 : Int32) (t1 : Int32) (V : VS) : Prop := bO (vO V [1] a0) (fun o_5 => vX1_hearTalk cA a0 t1 t0 V (fun V_4 => vX1_finds_c27 cA a0 a1 a2 Post V_4))
def vX1_finds (cA : Nat → ClassId) (a0 : Nat) (a1 : Int32) (a2 : Int32) (V : VS) (Post : Int32 → VS → Prop) : Prop := (a2 = 0 → (bO (vO V [1] a0) (fun o_13 => vX1_hearPage cA a0 a1 V (fun V_12 => vX1_finds_c27 cA a0 a1 a2 Post V_12)))) ∧ (¬ (a2 = 0) → ((a2 = (1 : Int32) → (vX1_finds_c24 cA a0 a1 a2 Post (1 : Int32) a1 V)) ∧ (¬ (a2 = (1 : Int32)) → (vX1_finds_c24 cA a0 a1 a2 Post (0 : Int32) a1 V))))
abbrev rX1_finds : Room := { frames := 92, cells := 0, slots := 0, locals := 5182 }
theorem cdX1_finds : yX1_finds.cls = RX1 ∧ yX1_finds.cls ≠ "java/lang/invoke/MethodHandle" ∧ yX1_finds.cls ≠ "java/lang/invoke/VarHandle" ∧ (parseMethodDescriptor yX1_finds.desc).map (fun d => d.parameters.length) = some 2 := by decide +kernel
set_option maxHeartbeats 4000000 in
set_option maxRecDepth 100000 in
theorem mvX1_finds (l : Launch) {D : va_G} {cA : Nat → ClassId} {A : Nat → Prop} (a0 : Nat) (a1 : Int32) (a2 : Int32) (V : VS) (Post : Int32 → VS → Prop) (h : vX1_finds cA a0 a1 a2 V Post) : Met l yX1_finds (ws_ yX1_finds cX1_finds 3 (some (.boolean))) rX1_finds (vPc [.ref a0, .int a1, .int a2] D cA A V) (va_Qi Post (vB D A) A) 0 0 A := by
  refine vstM (own := RX1) (by decide) rfl (Nat.le_of_ble_eq_true rfl) ?_
  intro p e s m args below meth c ls X hret hV hS hl
  obtain ⟨S, hK, hG, hA, hnm, hlocks⟩ := X
  have hx := S.1
  have hb := S.2.1
  have hl : lv_has ls 3 [(0, .ref a0), (1, .int a1), (2, .int a2)] := hl
  have C27 : ∀ (V : VS) (H : Heap) (locs : List Loc) (ls : Array Slot), HV D A V H → va_S A s.heap H locs → lv_has ls 3 [(0, .ref a0), (1, .int a1), (2, .int a2)] → vX1_finds_c27 cA a0 a1 a2 Post V → W p l e rX1_finds s m args below meth c H locs 0 0 (MQ below (va_Qi Post (vB D A) A) args s 0 0 A) (F0 m 27 ls []) := by
    intro V H locs ls hV hS hl h
    unfold vX1_finds_c27 at h
    refine lv_aload_n hx hb dX1_finds_27 rfl (lv_at hl 0 rfl) ?_
    refine lv_iconst hx hb dX1_finds_28 kc_2 ?_
    obtain ⟨o_9, e_10, h⟩ := bO_e h
    refine vy_i (vr_VH (As := [.int (2 : Int32)]) (rest := []) S hK hG hA hV hS e_10 rfl (mvX1_holds l a0 (2 : Int32) V _ _ h) (vx_cwVW 1 S.2.2.2.2 (lw_VW q1299 q1301 qs59 q139 q1302) rfl rfl rfl cdX1_holds ⟨Nat.le_of_ble_eq_true rfl, Nat.le_of_ble_eq_true rfl⟩) rfl hl.1 (Nat.le_of_ble_eq_true rfl) dX1_finds_29 ⟨Nat.le_refl _, Nat.le_refl _⟩) hS (fun k q V1 H1 l1 ce h => h.elim) (fun r_7 V_8 H locs h hV hS => ?_)
    exact ve_i S hlocks hret hV hS h.2 (vz_nar h.1) (Nat.le_refl _) (Nat.le_refl _) dX1_finds_32
  have C24 : ∀ (t0 : Int32) (t1 : Int32) (V : VS) (H : Heap) (locs : List Loc) (ls : Array Slot), HV D A V H → va_S A s.heap H locs → lv_has ls 3 [(0, .ref a0), (1, .int a1), (2, .int a2)] → vX1_finds_c24 cA a0 a1 a2 Post t0 t1 V → W p l e rX1_finds s m args below meth c H locs 0 0 (MQ below (va_Qi Post (vB D A) A) args s 0 0 A) (F0 m 24 ls [.int t0, .int t1, .ref a0]) := by
    intro t0 t1 V H locs ls hV hS hl h
    unfold vX1_finds_c24 at h
    obtain ⟨o_5, e_6, h⟩ := bO_e h
    refine vk_v (vr_V (As := [.int t1, .int t0]) (rest := []) S hK hG hA hV hS e_6 rfl (mvX1_hearTalk l a0 t1 t0 V _ h) (cwV 2 S.2.2.2.2 (lw_V q1291 q1293 qs57 q139 q1294) rfl rfl rfl cdX1_hearTalk ⟨Nat.le_of_ble_eq_true rfl, Nat.le_of_ble_eq_true rfl⟩) rfl hl.1 (Nat.le_of_ble_eq_true rfl) dX1_finds_24 ⟨Nat.le_refl _, Nat.le_refl _⟩) hS (fun V_4 H locs h hV hS => ?_)
    exact C27 _ _ _ _ hV hS (lv_sub hl [0, 1, 2] rfl) h
  unfold vX1_finds at h
  refine lv_iload_n hx hb dX1_finds_0 rfl (lv_at hl 2 rfl) ?_
  refine lv_if_ne (tgt := 12) hx hb dX1_finds_1 (by decide) (fun c_1 => ?_) (fun c_1 => ?_)
  · replace h := h.2 c_1
    refine lv_aload_n hx hb dX1_finds_12 rfl (lv_at hl 0 rfl) ?_
    refine lv_iload_n hx hb dX1_finds_13 rfl (lv_at hl 1 rfl) ?_
    refine lv_iload_n hx hb dX1_finds_14 rfl (lv_at hl 2 rfl) ?_
    refine lv_iconst hx hb dX1_finds_15 kc_1 ?_
    refine lv_icmp_ne (tgt := 23) hx hb dX1_finds_16 (by decide) (fun c_2 => ?_) (fun c_2 => ?_)
    · replace h := h.2 c_2
      refine lv_iconst hx hb dX1_finds_23 kc_0 ?_
      exact C24 _ _ _ _ _ _ hV hS (lv_sub hl [0, 1, 2] rfl) h
    · replace h := h.1 c_2
      refine lv_iconst hx hb dX1_finds_19 kc_1 ?_
      refine lv_goto (tgt := 24) hx hb dX1_finds_20 (by decide) ?_
      exact C24 _ _ _ _ _ _ hV hS (lv_sub hl [0, 1, 2] rfl) h
  · replace h := h.1 c_1
    refine lv_aload_n hx hb dX1_finds_4 rfl (lv_at hl 0 rfl) ?_
    refine lv_iload_n hx hb dX1_finds_5 rfl (lv_at hl 1 rfl) ?_
    obtain ⟨o_13, e_14, h⟩ := bO_e h
    refine vk_v (vr_V (As := [.int a1]) (rest := []) S hK hG hA hV hS e_14 rfl (mvX1_hearPage l a0 a1 V _ h) (cwV 1 S.2.2.2.2 (lw_V q1311 q1313 qs61 q139 q1314) rfl rfl rfl cdX1_hearPage ⟨Nat.le_of_ble_eq_true rfl, Nat.le_of_ble_eq_true rfl⟩) rfl hl.1 (Nat.le_of_ble_eq_true rfl) dX1_finds_6 ⟨Nat.le_refl _, Nat.le_refl _⟩) hS (fun V_12 H locs h hV hS => ?_)
    refine lv_goto (tgt := 27) hx hb dX1_finds_9 (by decide) ?_
    exact C27 _ _ _ _ hV hS (lv_sub hl [0, 1, 2] rfl) h
def vX1_jury (cA : Nat → ClassId) (a0 : Nat) (a1 : Int32) (a2 : Int32) (V : VS) (Post : Int32 → VS → Prop) : Prop := bO (vO V [1] a0) (fun o_3 => vX1_isTeller cA a0 a1 V (fun r_1 V_2 => (r_1 = 0 → (Post (-1 : Int32) V_2)) ∧ (¬ (r_1 = 0) → (w1_in a2 (0 : Int32) (2 : Int32) (fun r_6 => (r_6 = 0 → (Post (-1 : Int32) V_2)) ∧ (¬ (r_6 = 0) → (bO (vO V_2 [1] a0) (fun o_10 => vX1_finds cA a0 a1 a2 V_2 (fun r_8 V_9 => (r_8 = 0 → (Post (0 : Int32) V_9)) ∧ (¬ (r_8 = 0) → (Post (1 : Int32) V_9)))))))))))
abbrev rX1_jury : Room := { frames := 93, cells := 0, slots := 0, locals := 5204 }
theorem cdX1_jury : yX1_jury.cls = RX1 ∧ yX1_jury.cls ≠ "java/lang/invoke/MethodHandle" ∧ yX1_jury.cls ≠ "java/lang/invoke/VarHandle" ∧ (parseMethodDescriptor yX1_jury.desc).map (fun d => d.parameters.length) = some 2 := by decide +kernel
set_option maxHeartbeats 4000000 in
set_option maxRecDepth 100000 in
theorem mvX1_jury (l : Launch) {D : va_G} {cA : Nat → ClassId} {A : Nat → Prop} (a0 : Nat) (a1 : Int32) (a2 : Int32) (V : VS) (Post : Int32 → VS → Prop) (h : vX1_jury cA a0 a1 a2 V Post) : Met l yX1_jury (ws_ yX1_jury cX1_jury 3 (some (.int))) rX1_jury (vPc [.ref a0, .int a1, .int a2] D cA A V) (va_Qi Post (vB D A) A) 0 0 A := by
  refine vstM (own := RX1) (by decide) rfl (Nat.le_of_ble_eq_true rfl) ?_
  intro p e s m args below meth c ls X hret hV hS hl
  obtain ⟨S, hK, hG, hA, hnm, hlocks⟩ := X
  have hx := S.1
  have hb := S.2.1
  have hl : lv_has ls 3 [(0, .ref a0), (1, .int a1), (2, .int a2)] := hl
  unfold vX1_jury at h
  refine lv_aload_n hx hb dX1_jury_0 rfl (lv_at hl 0 rfl) ?_
  refine lv_iload_n hx hb dX1_jury_1 rfl (lv_at hl 1 rfl) ?_
  obtain ⟨o_3, e_4, h⟩ := bO_e h
  refine vk_i (vr_V (As := [.int a1]) (rest := []) S hK hG hA hV hS e_4 rfl (mvX1_isTeller l a0 a1 V _ h) (cwV 1 S.2.2.2.2 (lw_V q968 q970 qs31 q139 q971) rfl rfl rfl cdX1_isTeller ⟨Nat.le_of_ble_eq_true rfl, Nat.le_of_ble_eq_true rfl⟩) rfl hl.1 (Nat.le_of_ble_eq_true rfl) dX1_jury_2 ⟨Nat.le_refl _, Nat.le_refl _⟩) hS (fun r_1 V_2 H locs h hV hS => ?_)
  refine lv_if_eq (tgt := 17) hx hb dX1_jury_5 (by decide) (fun c_5 => ?_) (fun c_5 => ?_)
  · replace h := h.1 c_5
    refine lv_iconst hx hb dX1_jury_17 kc_m1 ?_
    refine lv_goto (tgt := 35) hx hb dX1_jury_18 (by decide) ?_
    exact ve_i S hlocks hret hV hS h rfl (Nat.le_refl _) (Nat.le_refl _) dX1_jury_35
  · replace h := h.2 c_5
    refine lv_iload_n hx hb dX1_jury_8 rfl (lv_at hl 2 rfl) ?_
    refine lv_iconst hx hb dX1_jury_9 kc_0 ?_
    refine lv_iconst hx hb dX1_jury_10 kc_2 ?_
    refine sc_i S (As := [.int a2, .int (0 : Int32), .int (2 : Int32)]) (rest := []) (mt1_in l a2 (0 : Int32) (2 : Int32) _ h) (va_cwS 3 S.2.2.2.2 (lw_S q367 q368 q139 q369) rfl rfl rfl cdX1_in ⟨Nat.le_of_ble_eq_true rfl, Nat.le_of_ble_eq_true rfl⟩) rfl rfl hl.1 (Nat.le_of_ble_eq_true rfl) dX1_jury_11 ⟨Nat.le_refl _, Nat.le_refl _⟩ (fun r_6 h => ?_)
    refine lv_if_ne (tgt := 21) hx hb dX1_jury_14 (by decide) (fun c_7 => ?_) (fun c_7 => ?_)
    · replace h := h.2 c_7
      refine lv_aload_n hx hb dX1_jury_21 rfl (lv_at hl 0 rfl) ?_
      refine lv_iload_n hx hb dX1_jury_22 rfl (lv_at hl 1 rfl) ?_
      refine lv_iload_n hx hb dX1_jury_23 rfl (lv_at hl 2 rfl) ?_
      obtain ⟨o_10, e_11, h⟩ := bO_e h
      refine vk_i (vr_V (As := [.int a1, .int a2]) (rest := []) S hK hG hA hV hS e_11 rfl (mvX1_finds l a0 a1 a2 V_2 _ h) (cwV 2 S.2.2.2.2 (lw_V q1307 q1309 qs60 q139 q1310) rfl rfl rfl cdX1_finds ⟨Nat.le_of_ble_eq_true rfl, Nat.le_of_ble_eq_true rfl⟩) rfl hl.1 (Nat.le_of_ble_eq_true rfl) dX1_jury_24 ⟨Nat.le_refl _, Nat.le_refl _⟩) hS (fun r_8 V_9 H locs h hV hS => ?_)
      refine lv_if_eq (tgt := 34) hx hb dX1_jury_27 (by decide) (fun c_12 => ?_) (fun c_12 => ?_)
      · replace h := h.1 c_12
        refine lv_iconst hx hb dX1_jury_34 kc_0 ?_
        exact ve_i S hlocks hret hV hS h rfl (Nat.le_refl _) (Nat.le_refl _) dX1_jury_35
      · replace h := h.2 c_12
        refine lv_iconst hx hb dX1_jury_30 kc_1 ?_
        refine lv_goto (tgt := 35) hx hb dX1_jury_31 (by decide) ?_
        exact ve_i S hlocks hret hV hS h rfl (Nat.le_refl _) (Nat.le_refl _) dX1_jury_35
    · replace h := h.1 c_7
      refine lv_iconst hx hb dX1_jury_17 kc_m1 ?_
      refine lv_goto (tgt := 35) hx hb dX1_jury_18 (by decide) ?_
      exact ve_i S hlocks hret hV hS h rfl (Nat.le_refl _) (Nat.le_refl _) dX1_jury_35
def vX1_there (cA : Nat → ClassId) (a0 : Nat) (a1 : Int32) (V : VS) (Post : Int32 → VS → Prop) : Prop := (a1 < 0 → (Post (-1 : Int32) V)) ∧ (¬ (a1 < 0) → (bO (gR V [1] a0 11) (fun p_2 => bO p_2 (fun n_4 => bO (gR V [3] n_4 1) (fun p_5 => bO p_5 (fun n_7 => bO (vO V [14] n_7) (fun o_10 => vJ2_size cA n_7 V (fun r_8 V_9 => (a1 < ((1 : Int32) <<< (r_8 &&& (31 : Int32))) → (bO (pF V_9 [1] a0 7 (.int a1)) (fun V_13 => wJ18_bitCount a1 (fun r_15 => Post r_15 V_13)))) ∧ (¬ (a1 < ((1 : Int32) <<< (r_8 &&& (31 : Int32)))) → (Post (-1 : Int32) V_9))))))))))
abbrev rX1_there : Room := { frames := 1, cells := 0, slots := 0, locals := 20 }
theorem cdX1_there : yX1_there.cls = RX1 ∧ yX1_there.cls ≠ "java/lang/invoke/MethodHandle" ∧ yX1_there.cls ≠ "java/lang/invoke/VarHandle" ∧ (parseMethodDescriptor yX1_there.desc).map (fun d => d.parameters.length) = some 1 := by decide +kernel
set_option maxHeartbeats 4000000 in
set_option maxRecDepth 100000 in
theorem mvX1_there (l : Launch) {D : va_G} {cA : Nat → ClassId} {A : Nat → Prop} (a0 : Nat) (a1 : Int32) (V : VS) (Post : Int32 → VS → Prop) (h : vX1_there cA a0 a1 V Post) : Met l yX1_there (ws_ yX1_there cX1_there 2 (some (.int))) rX1_there (vPc [.ref a0, .int a1] D cA A V) (va_Qi Post (vB D A) A) 0 0 A := by
  refine vstM (own := RX1) (by decide) rfl (Nat.le_of_ble_eq_true rfl) ?_
  intro p e s m args below meth c ls X hret hV hS hl
  obtain ⟨S, hK, hG, hA, hnm, hlocks⟩ := X
  have hx := S.1
  have hb := S.2.1
  have hl : lv_has ls 2 [(0, .ref a0), (1, .int a1)] := hl
  unfold vX1_there at h
  refine lv_iload_n hx hb dX1_there_0 rfl (lv_at hl 1 rfl) ?_
  refine lv_if_lt (tgt := 20) hx hb dX1_there_1 (by decide) (fun c_1 => ?_) (fun c_1 => ?_)
  · replace h := h.1 c_1
    refine lv_iconst hx hb dX1_there_20 kc_m1 ?_
    exact ve_i S hlocks hret hV hS h rfl (Nat.le_refl _) (Nat.le_refl _) dX1_there_21
  · replace h := h.2 c_1
    refine lv_iload_n hx hb dX1_there_4 rfl (lv_at hl 1 rfl) ?_
    refine lv_iconst hx hb dX1_there_5 kc_1 ?_
    refine lv_aload_n hx hb dX1_there_6 rfl (lv_at hl 0 rfl) ?_
    obtain ⟨p_2, e_3, h⟩ := bO_e h
    refine vg_r S hK hV fX1_49 e_3 dX1_there_7 ?_
    obtain ⟨n_4, z_n_4, h9⟩ := bO_e h
    clear h; subst z_n_4; have h := h9; clear h9
    obtain ⟨p_5, e_6, h⟩ := bO_e h
    refine vg_r S hK hV fX1_115 e_6 dX1_there_10 ?_
    obtain ⟨n_7, z_n_7, h9⟩ := bO_e h
    clear h; subst z_n_7; have h := h9; clear h9
    obtain ⟨o_10, e_11, h⟩ := bO_e h
    refine vk_i (vr_V (As := []) (rest := [.int (1 : Int32), .int a1]) S hK hG hA hV hS e_11 rfl (mvJ2_size l n_7 V _ h) (cwV 0 S.2.2.2.2 (lw_V q972 q591 q592 q144 q593) rfl rfl rfl cdJ2_size ⟨Nat.le_of_ble_eq_true rfl, Nat.le_of_ble_eq_true rfl⟩) rfl hl.1 (Nat.le_of_ble_eq_true rfl) dX1_there_13 ⟨Nat.le_refl _, Nat.le_refl _⟩) hS (fun r_8 V_9 H locs h hV hS => ?_)
    refine lv_ishl hx hb dX1_there_16 ?_
    refine lv_icmp_lt (tgt := 22) hx hb dX1_there_17 (by decide) (fun c_12 => ?_) (fun c_12 => ?_)
    · replace h := h.1 c_12
      refine lv_aload_n hx hb dX1_there_22 rfl (lv_at hl 0 rfl) ?_
      refine lv_iload_n hx hb dX1_there_23 rfl (lv_at hl 1 rfl) ?_
      obtain ⟨V_13, e_14, h⟩ := bO_e h
      refine vp_v (v := .int a1) S hK hV hS fX1_99 (Or.inl rfl) rfl rfl e_14 dX1_there_24 (fun H locs hV hS => ?_)
      refine lv_iload_n hx hb dX1_there_27 rfl (lv_at hl 1 rfl) ?_
      refine sc_i S (As := [.int a1]) (rest := []) (mtJ18_bitCount l a1 _ h) (va_cwS 1 S.2.2.2.2 (lw_S q1189 q1190 q174 q1191) rfl rfl rfl cdJ18_bitCount ⟨Nat.le_of_ble_eq_true rfl, Nat.le_of_ble_eq_true rfl⟩) rfl rfl hl.1 (Nat.le_of_ble_eq_true rfl) dX1_there_28 ⟨Nat.le_refl _, Nat.le_refl _⟩ (fun r_15 h => ?_)
      exact ve_i S hlocks hret hV hS h rfl (Nat.le_refl _) (Nat.le_refl _) dX1_there_31
    · replace h := h.2 c_12
      refine lv_iconst hx hb dX1_there_20 kc_m1 ?_
      exact ve_i S hlocks hret hV hS h rfl (Nat.le_refl _) (Nat.le_refl _) dX1_there_21
def vX1_found_c68 (cA : Nat → ClassId) (a0 : Nat) (a1 : Int32) (a2 : Int32) (k25 : Int32 → Int32 → VS → Prop) (Post : Int32 → VS → Prop) (x4 : Int32) (t0 : Int32) (t1 : Int32) (V : VS) : Prop := ∀ v_26 : Int32, v_26 = t1 ||| t0 → ∀ v_27 : Int32, v_27 = x4 + (1 : Int32) → k25 v_26 v_27 V
def vX1_found_c67 (cA : Nat → ClassId) (a0 : Nat) (a1 : Int32) (a2 : Int32) (k25 : Int32 → Int32 → VS → Prop) (Post : Int32 → VS → Prop) (x4 : Int32) (t0 : Int32) (V : VS) : Prop := vX1_found_c68 cA a0 a1 a2 k25 Post x4 (0 : Int32) t0 V
def vX1_found_l25 (cA : Nat → ClassId) (a0 : Nat) (a1 : Int32) (a2 : Int32) (Post : Int32 → VS → Prop) : Nat → Int32 → Int32 → VS → Prop
  | 0, _, _, _ => False
  | n + 1, x3, x4, V => bO (gR V [1] a0 11) (fun p_5 => bO p_5 (fun n_7 => bO (gR V [3] n_7 1) (fun p_8 => bO p_8 (fun n_10 => bO (vO V [14] n_10) (fun o_13 => vJ2_size cA n_10 V (fun r_11 V_12 => (r_11 ≤ x4 → ((a2 = 0 → (bO (gI V_12 [1] a0 7) (fun g_19 => Post (x3 &&& (g_19 ^^^ (-1 : Int32))) V_12))) ∧ (¬ (a2 = 0) → (bO (gI V_12 [1] a0 7) (fun g_17 => Post (g_17 &&& (x3 ^^^ (-1 : Int32))) V_12))))) ∧ (¬ (r_11 ≤ x4) → (bO (vO V_12 [1] a0) (fun o_23 => vX1_isBarred cA a0 x4 V_12 (fun r_21 V_22 => (r_21 = 0 → (bO (vO V_22 [1] a0) (fun o_30 => vX1_finds cA a0 x4 a1 V_22 (fun r_28 V_29 => (r_28 = 0 → (vX1_found_c67 cA a0 a1 a2 (vX1_found_l25 cA a0 a1 a2 Post n) Post x4 x3 V_29)) ∧ (¬ (r_28 = 0) → (vX1_found_c68 cA a0 a1 a2 (vX1_found_l25 cA a0 a1 a2 Post n) Post x4 ((1 : Int32) <<< (x4 &&& (31 : Int32))) x3 V_29)))))) ∧ (¬ (r_21 = 0) → (vX1_found_c67 cA a0 a1 a2 (vX1_found_l25 cA a0 a1 a2 Post n) Post x4 x3 V_22))))))))))))
def vX1_found (cA : Nat → ClassId) (a0 : Nat) (a1 : Int32) (a2 : Int32) (V : VS) (Post : Int32 → VS → Prop) : Prop := w1_in a1 (0 : Int32) (2 : Int32) (fun r_1 => (r_1 = 0 → (Post (-1 : Int32) V)) ∧ (¬ (r_1 = 0) → (w1_in a2 (0 : Int32) (1 : Int32) (fun r_3 => (r_3 = 0 → (Post (-1 : Int32) V)) ∧ (¬ (r_3 = 0) → (∃ f, vX1_found_l25 cA a0 a1 a2 Post f (0 : Int32) (0 : Int32) V))))))
abbrev rX1_found : Room := { frames := 93, cells := 0, slots := 0, locals := 5204 }
theorem cdX1_found : yX1_found.cls = RX1 ∧ yX1_found.cls ≠ "java/lang/invoke/MethodHandle" ∧ yX1_found.cls ≠ "java/lang/invoke/VarHandle" ∧ (parseMethodDescriptor yX1_found.desc).map (fun d => d.parameters.length) = some 2 := by decide +kernel
set_option maxHeartbeats 4000000 in
set_option maxRecDepth 100000 in
theorem mvX1_found (l : Launch) {D : va_G} {cA : Nat → ClassId} {A : Nat → Prop} (a0 : Nat) (a1 : Int32) (a2 : Int32) (V : VS) (Post : Int32 → VS → Prop) (h : vX1_found cA a0 a1 a2 V Post) : Met l yX1_found (ws_ yX1_found cX1_found 5 (some (.int))) rX1_found (vPc [.ref a0, .int a1, .int a2] D cA A V) (va_Qi Post (vB D A) A) 0 0 A := by
  refine vstM (own := RX1) (by decide) rfl (Nat.le_of_ble_eq_true rfl) ?_
  intro p e s m args below meth c ls X hret hV hS hl
  obtain ⟨S, hK, hG, hA, hnm, hlocks⟩ := X
  have hx := S.1
  have hb := S.2.1
  have hl : lv_has ls 5 [(0, .ref a0), (1, .int a1), (2, .int a2)] := hl
  have C68 : ∀ (k25 : Int32 → Int32 → VS → Prop) (K25 : (∀ (x3 : Int32) (x4 : Int32) (V : VS) (H : Heap) (locs : List Loc) (ls : Array Slot), HV D A V H → va_S A s.heap H locs → lv_has ls 5 [(0, .ref a0), (1, .int a1), (2, .int a2), (3, .int x3), (4, .int x4)] → k25 x3 x4 V → W p l e rX1_found s m args below meth c H locs 0 0 (MQ below (va_Qi Post (vB D A) A) args s 0 0 A) (F0 m 25 ls []))), ∀ (x4 : Int32) (t0 : Int32) (t1 : Int32) (V : VS) (H : Heap) (locs : List Loc) (ls : Array Slot), HV D A V H → va_S A s.heap H locs → lv_has ls 5 [(0, .ref a0), (1, .int a1), (2, .int a2), (4, .int x4)] → vX1_found_c68 cA a0 a1 a2 k25 Post x4 t0 t1 V → W p l e rX1_found s m args below meth c H locs 0 0 (MQ below (va_Qi Post (vB D A) A) args s 0 0 A) (F0 m 68 ls [.int t0, .int t1]) := by
    intro k25 K25
    intro x4 t0 t1 V H locs ls hV hS hl h
    unfold vX1_found_c68 at h
    refine lv_ior hx hb dX1_found_68 ?_
    refine lv_topi (fun v_26 e_v_26 => ?_)
    replace h := h v_26 e_v_26
    refine lv_istore_n (lv' := [(3, .int v_26), (0, .ref a0), (1, .int a1), (2, .int a2), (4, .int x4)]) hx hb dX1_found_69 rfl hl (by decide) rfl (fun ls hl => ?_)
    obtain ⟨v_27, e_v_27⟩ : ∃ y : Int32, y = x4 + (1 : Int32) := ⟨_, rfl⟩
    replace h := h v_27 e_v_27
    refine lv_iinc (v := v_27) (lv' := [(4, .int v_27), (3, .int v_26), (0, .ref a0), (1, .int a1), (2, .int a2)]) hx hb dX1_found_70 hl (k := 4) rfl (by rw [kc_1, e_v_27]) (by decide) rfl (fun ls hl => ?_)
    refine lv_goto (tgt := 25) hx hb dX1_found_73 (by decide) ?_
    exact K25 _ _ _ _ _ _ hV hS (lv_sub hl [2, 3, 4, 1, 0] rfl) h
  have C67 : ∀ (k25 : Int32 → Int32 → VS → Prop) (K25 : (∀ (x3 : Int32) (x4 : Int32) (V : VS) (H : Heap) (locs : List Loc) (ls : Array Slot), HV D A V H → va_S A s.heap H locs → lv_has ls 5 [(0, .ref a0), (1, .int a1), (2, .int a2), (3, .int x3), (4, .int x4)] → k25 x3 x4 V → W p l e rX1_found s m args below meth c H locs 0 0 (MQ below (va_Qi Post (vB D A) A) args s 0 0 A) (F0 m 25 ls []))), ∀ (x4 : Int32) (t0 : Int32) (V : VS) (H : Heap) (locs : List Loc) (ls : Array Slot), HV D A V H → va_S A s.heap H locs → lv_has ls 5 [(0, .ref a0), (1, .int a1), (2, .int a2), (4, .int x4)] → vX1_found_c67 cA a0 a1 a2 k25 Post x4 t0 V → W p l e rX1_found s m args below meth c H locs 0 0 (MQ below (va_Qi Post (vB D A) A) args s 0 0 A) (F0 m 67 ls [.int t0]) := by
    intro k25 K25
    intro x4 t0 V H locs ls hV hS hl h
    unfold vX1_found_c67 at h
    refine lv_iconst hx hb dX1_found_67 kc_0 ?_
    exact C68 _ K25 _ _ _ _ _ _ _ hV hS (lv_sub hl [0, 1, 2, 3] rfl) h
  have L25 : ∀ (n : Nat) (x3 : Int32) (x4 : Int32) (V : VS) (H : Heap) (locs : List Loc) (ls : Array Slot), HV D A V H → va_S A s.heap H locs → lv_has ls 5 [(0, .ref a0), (1, .int a1), (2, .int a2), (3, .int x3), (4, .int x4)] → vX1_found_l25 cA a0 a1 a2 Post n x3 x4 V → W p l e rX1_found s m args below meth c H locs 0 0 (MQ below (va_Qi Post (vB D A) A) args s 0 0 A) (F0 m 25 ls []) := by
    intro n
    induction n with
    | zero => intro x3 x4 V H locs ls hV hS hl h; rw [vX1_found_l25] at h; exact h.elim
    | succ n ih =>
      intro x3 x4 V H locs ls hV hS hl h
      rw [vX1_found_l25] at h
      refine lv_iload hx hb dX1_found_25 (lv_at hl 4 rfl) ?_
      refine lv_aload_n hx hb dX1_found_27 rfl (lv_at hl 0 rfl) ?_
      obtain ⟨p_5, e_6, h⟩ := bO_e h
      refine vg_r S hK hV fX1_49 e_6 dX1_found_28 ?_
      obtain ⟨n_7, z_n_7, h9⟩ := bO_e h
      clear h; subst z_n_7; have h := h9; clear h9
      obtain ⟨p_8, e_9, h⟩ := bO_e h
      refine vg_r S hK hV fX1_115 e_9 dX1_found_31 ?_
      obtain ⟨n_10, z_n_10, h9⟩ := bO_e h
      clear h; subst z_n_10; have h := h9; clear h9
      obtain ⟨o_13, e_14, h⟩ := bO_e h
      refine vk_i (vr_V (As := []) (rest := [.int x4]) S hK hG hA hV hS e_14 rfl (mvJ2_size l n_10 V _ h) (cwV 0 S.2.2.2.2 (lw_V q972 q591 q592 q144 q593) rfl rfl rfl cdJ2_size ⟨Nat.le_of_ble_eq_true rfl, Nat.le_of_ble_eq_true rfl⟩) rfl hl.1 (Nat.le_of_ble_eq_true rfl) dX1_found_34 ⟨Nat.le_refl _, Nat.le_refl _⟩) hS (fun r_11 V_12 H locs h hV hS => ?_)
      refine lv_icmp_ge (tgt := 76) hx hb dX1_found_37 (by decide) (fun c_15 => ?_) (fun c_15 => ?_)
      · replace h := h.1 c_15
        refine lv_iload_n hx hb dX1_found_76 rfl (lv_at hl 2 rfl) ?_
        refine lv_if_ne (tgt := 91) hx hb dX1_found_77 (by decide) (fun c_16 => ?_) (fun c_16 => ?_)
        · replace h := h.2 c_16
          refine lv_aload_n hx hb dX1_found_91 rfl (lv_at hl 0 rfl) ?_
          obtain ⟨g_17, e_18, h⟩ := bO_e h
          refine vg_i S hK hV fX1_99 e_18 dX1_found_92 ?_
          refine lv_iload_n hx hb dX1_found_95 rfl (lv_at hl 3 rfl) ?_
          refine lv_iconst hx hb dX1_found_96 kc_m1 ?_
          refine lv_ixor hx hb dX1_found_97 ?_
          refine lv_iand hx hb dX1_found_98 ?_
          exact ve_i S hlocks hret hV hS h rfl (Nat.le_refl _) (Nat.le_refl _) dX1_found_99
        · replace h := h.1 c_16
          refine lv_iload_n hx hb dX1_found_80 rfl (lv_at hl 3 rfl) ?_
          refine lv_aload_n hx hb dX1_found_81 rfl (lv_at hl 0 rfl) ?_
          obtain ⟨g_19, e_20, h⟩ := bO_e h
          refine vg_i S hK hV fX1_99 e_20 dX1_found_82 ?_
          refine lv_iconst hx hb dX1_found_85 kc_m1 ?_
          refine lv_ixor hx hb dX1_found_86 ?_
          refine lv_iand hx hb dX1_found_87 ?_
          refine lv_goto (tgt := 99) hx hb dX1_found_88 (by decide) ?_
          exact ve_i S hlocks hret hV hS h rfl (Nat.le_refl _) (Nat.le_refl _) dX1_found_99
      · replace h := h.2 c_15
        refine lv_iload_n hx hb dX1_found_40 rfl (lv_at hl 3 rfl) ?_
        refine lv_aload_n hx hb dX1_found_41 rfl (lv_at hl 0 rfl) ?_
        refine lv_iload hx hb dX1_found_42 (lv_at hl 4 rfl) ?_
        obtain ⟨o_23, e_24, h⟩ := bO_e h
        refine vk_i (vr_V (As := [.int x4]) (rest := [.int x3]) S hK hG hA hV hS e_24 rfl (mvX1_isBarred l a0 x4 V_12 _ h) (cwV 1 S.2.2.2.2 (lw_V q1287 q1289 qs56 q139 q1290) rfl rfl rfl cdX1_isBarred ⟨Nat.le_of_ble_eq_true rfl, Nat.le_of_ble_eq_true rfl⟩) rfl hl.1 (Nat.le_of_ble_eq_true rfl) dX1_found_44 ⟨Nat.le_refl _, Nat.le_refl _⟩) hS (fun r_21 V_22 H locs h hV hS => ?_)
        refine lv_if_ne (tgt := 67) hx hb dX1_found_47 (by decide) (fun c_25 => ?_) (fun c_25 => ?_)
        · replace h := h.2 c_25
          exact C67 _ ih _ _ _ _ _ _ hV hS (lv_sub hl [0, 1, 2, 4] rfl) h
        · replace h := h.1 c_25
          refine lv_aload_n hx hb dX1_found_50 rfl (lv_at hl 0 rfl) ?_
          refine lv_iload hx hb dX1_found_51 (lv_at hl 4 rfl) ?_
          refine lv_iload_n hx hb dX1_found_53 rfl (lv_at hl 1 rfl) ?_
          obtain ⟨o_30, e_31, h⟩ := bO_e h
          refine vk_i (vr_V (As := [.int x4, .int a1]) (rest := [.int x3]) S hK hG hA hV hS e_31 rfl (mvX1_finds l a0 x4 a1 V_22 _ h) (cwV 2 S.2.2.2.2 (lw_V q1307 q1309 qs60 q139 q1310) rfl rfl rfl cdX1_finds ⟨Nat.le_of_ble_eq_true rfl, Nat.le_of_ble_eq_true rfl⟩) rfl hl.1 (Nat.le_of_ble_eq_true rfl) dX1_found_54 ⟨Nat.le_refl _, Nat.le_refl _⟩) hS (fun r_28 V_29 H locs h hV hS => ?_)
          refine lv_if_eq (tgt := 67) hx hb dX1_found_57 (by decide) (fun c_32 => ?_) (fun c_32 => ?_)
          · replace h := h.1 c_32
            exact C67 _ ih _ _ _ _ _ _ hV hS (lv_sub hl [0, 1, 2, 4] rfl) h
          · replace h := h.2 c_32
            refine lv_iconst hx hb dX1_found_60 kc_1 ?_
            refine lv_iload hx hb dX1_found_61 (lv_at hl 4 rfl) ?_
            refine lv_ishl hx hb dX1_found_63 ?_
            refine lv_goto (tgt := 68) hx hb dX1_found_64 (by decide) ?_
            exact C68 _ ih _ _ _ _ _ _ _ hV hS (lv_sub hl [0, 1, 2, 4] rfl) h
  unfold vX1_found at h
  refine lv_iload_n hx hb dX1_found_0 rfl (lv_at hl 1 rfl) ?_
  refine lv_iconst hx hb dX1_found_1 kc_0 ?_
  refine lv_iconst hx hb dX1_found_2 kc_2 ?_
  refine sc_i S (As := [.int a1, .int (0 : Int32), .int (2 : Int32)]) (rest := []) (mt1_in l a1 (0 : Int32) (2 : Int32) _ h) (va_cwS 3 S.2.2.2.2 (lw_S q367 q368 q139 q369) rfl rfl rfl cdX1_in ⟨Nat.le_of_ble_eq_true rfl, Nat.le_of_ble_eq_true rfl⟩) rfl rfl hl.1 (Nat.le_of_ble_eq_true rfl) dX1_found_3 ⟨Nat.le_refl _, Nat.le_refl _⟩ (fun r_1 h => ?_)
  refine lv_if_eq (tgt := 18) hx hb dX1_found_6 (by decide) (fun c_2 => ?_) (fun c_2 => ?_)
  · replace h := h.1 c_2
    refine lv_iconst hx hb dX1_found_18 kc_m1 ?_
    exact ve_i S hlocks hret hV hS h rfl (Nat.le_refl _) (Nat.le_refl _) dX1_found_19
  · replace h := h.2 c_2
    refine lv_iload_n hx hb dX1_found_9 rfl (lv_at hl 2 rfl) ?_
    refine lv_iconst hx hb dX1_found_10 kc_0 ?_
    refine lv_iconst hx hb dX1_found_11 kc_1 ?_
    refine sc_i S (As := [.int a2, .int (0 : Int32), .int (1 : Int32)]) (rest := []) (mt1_in l a2 (0 : Int32) (1 : Int32) _ h) (va_cwS 3 S.2.2.2.2 (lw_S q367 q368 q139 q369) rfl rfl rfl cdX1_in ⟨Nat.le_of_ble_eq_true rfl, Nat.le_of_ble_eq_true rfl⟩) rfl rfl hl.1 (Nat.le_of_ble_eq_true rfl) dX1_found_12 ⟨Nat.le_refl _, Nat.le_refl _⟩ (fun r_3 h => ?_)
    refine lv_if_ne (tgt := 20) hx hb dX1_found_15 (by decide) (fun c_4 => ?_) (fun c_4 => ?_)
    · replace h := h.2 c_4
      refine lv_iconst hx hb dX1_found_20 kc_0 ?_
      refine lv_istore_n (lv' := [(3, .int (0 : Int32)), (0, .ref a0), (1, .int a1), (2, .int a2)]) hx hb dX1_found_21 rfl hl (by decide) rfl (fun ls hl => ?_)
      refine lv_iconst hx hb dX1_found_22 kc_0 ?_
      refine lv_istore (lv' := [(4, .int (0 : Int32)), (3, .int (0 : Int32)), (0, .ref a0), (1, .int a1), (2, .int a2)]) hx hb dX1_found_23 hl (by decide) rfl (fun ls hl => ?_)
      obtain ⟨f, h⟩ := h
      exact L25 f _ _ _ _ _ _ hV hS (lv_sub hl [2, 3, 4, 1, 0] rfl) h
    · replace h := h.1 c_4
      refine lv_iconst hx hb dX1_found_18 kc_m1 ?_
      exact ve_i S hlocks hret hV hS h rfl (Nat.le_refl _) (Nat.le_refl _) dX1_found_19
def vX1_look (cA : Nat → ClassId) (a0 : Nat) (a1 : Int32) (a2 : Int32) (V : VS) (MC MS : Nat) (Post : Int32 → VS → Prop) (PX : Nat → Nat → VS → Prop) : Prop := bO (vO V [1] a0) (fun o_3 => vX1_isThing cA a0 a1 V (fun r_1 V_2 => (r_1 = 0 → ((0 + 1 ≤ MC ∧ 0 + 6 ≤ MS ∧ ∀ q_32 : Nat, PX 2 q_32 V_2))) ∧ (¬ (r_1 = 0) → (bO (gR V_2 [1] a0 11) (fun p_6 => bO p_6 (fun n_8 => bO (gR V_2 [3] n_8 0) (fun p_9 => bO p_9 (fun n_11 => bO (vO V_2 [14] n_11) (fun o_14 => vJ2_get cA n_11 a1 V_2 (fun p_12 V_13 => bO p_12 (fun n_16 => bO (vO V_13 [5] n_16) (fun o_17 => (a2 = 0 → (bO (gI V_13 [5] n_16 1) (fun g_20 => Post g_20 V_13))) ∧ (¬ a2 = 0 → (a2 = 1 → (bO (gI V_13 [5] n_16 2) (fun g_23 => Post g_23 V_13))) ∧ (¬ a2 = 1 → (a2 = 2 → (bO (gI V_13 [5] n_16 3) (fun g_26 => Post g_26 V_13))) ∧ (¬ a2 = 2 → (a2 = 3 → (bO (gI V_13 [5] n_16 4) (fun g_29 => Post g_29 V_13))) ∧ (¬ a2 = 3 → (0 + 1 ≤ MC ∧ 0 + 6 ≤ MS ∧ ∀ q_31 : Nat, PX 3 q_31 V_13)))))))))))))))))
abbrev rX1_look (MC MS : Nat) : Room := { frames := 6, cells := MC, slots := MS, locals := 100 }
theorem cdX1_look : yX1_look.cls = RX1 ∧ yX1_look.cls ≠ "java/lang/invoke/MethodHandle" ∧ yX1_look.cls ≠ "java/lang/invoke/VarHandle" ∧ (parseMethodDescriptor yX1_look.desc).map (fun d => d.parameters.length) = some 2 := by decide +kernel
set_option maxHeartbeats 4000000 in
set_option maxRecDepth 100000 in
theorem mvX1_look (l : Launch) (hT : l.stackTraces = false) {D : va_G} {cA : Nat → ClassId} {A : Nat → Prop} (a0 : Nat) (a1 : Int32) (a2 : Int32) (V : VS) (MC MS : Nat) (Post : Int32 → VS → Prop) (PX : Nat → Nat → VS → Prop) (h : vX1_look cA a0 a1 a2 V MC MS Post PX) : vx_Met l yX1_look (ws_ yX1_look cX1_look 4 (some (.int))) (rX1_look MC MS) (vPc [.ref a0, .int a1, .int a2] D cA A V) (va_Qi Post (vB D A) A) (vX D A PX) MC MS A := by
  refine vst (own := RX1) (by decide) rfl (Nat.le_of_ble_eq_true rfl) ?_
  intro p e s m args below meth c ls X hret hV hS hl
  obtain ⟨S, hK, hG, hA, hnm, hlocks, htab⟩ := X
  have hx := S.1
  have hb := S.2.1
  have hk : 0 ≤ MC ∧ 0 ≤ MS := ⟨Nat.zero_le _, Nat.zero_le _⟩
  have hl : lv_has ls 4 [(0, .ref a0), (1, .int a1), (2, .int a2)] := hl
  unfold vX1_look at h
  refine lv_aload_n hx hb dX1_look_0 rfl (lv_at hl 0 rfl) ?_
  refine lv_iload_n hx hb dX1_look_1 rfl (lv_at hl 1 rfl) ?_
  obtain ⟨o_3, e_4, h⟩ := bO_e h
  refine vk_i (vr_V (As := [.int a1]) (rest := []) S hK hG hA hV hS e_4 rfl (mvX1_isThing l a0 a1 V _ h) (cwV 1 S.2.2.2.2 (lw_V q996 q998 qs33 q139 q999) rfl rfl rfl cdX1_isThing ⟨Nat.le_of_ble_eq_true rfl, Nat.le_of_ble_eq_true rfl⟩) rfl hl.1 (Nat.le_of_ble_eq_true rfl) dX1_look_2 ⟨hk.1, hk.2⟩) hS (fun r_1 V_2 H locs h hV hS => ?_)
  refine lv_if_ne (tgt := 16) hx hb dX1_look_5 (by decide) (fun c_5 => ?_) (fun c_5 => ?_)
  · replace h := h.2 c_5
    refine lv_aload_n hx hb dX1_look_16 rfl (lv_at hl 0 rfl) ?_
    obtain ⟨p_6, e_7, h⟩ := bO_e h
    refine vg_r S hK hV fX1_49 e_7 dX1_look_17 ?_
    obtain ⟨n_8, z_n_8, h9⟩ := bO_e h
    clear h; subst z_n_8; have h := h9; clear h9
    obtain ⟨p_9, e_10, h⟩ := bO_e h
    refine vg_r S hK hV fX1_125 e_10 dX1_look_20 ?_
    refine lv_iload_n hx hb dX1_look_23 rfl (lv_at hl 1 rfl) ?_
    obtain ⟨n_11, z_n_11, h9⟩ := bO_e h
    clear h; subst z_n_11; have h := h9; clear h9
    obtain ⟨o_14, e_15, h⟩ := bO_e h
    refine vk_q (vr_V (As := [.int a1]) (rest := []) S hK hG hA hV hS e_15 rfl (mvJ2_get l n_11 a1 V_2 _ h) (cwV 1 S.2.2.2.2 (lw_V q973 q608 q609 q144 q610) rfl rfl rfl cdJ2_get ⟨Nat.le_of_ble_eq_true rfl, Nat.le_of_ble_eq_true rfl⟩) rfl hl.1 (Nat.le_of_ble_eq_true rfl) dX1_look_24 ⟨hk.1, hk.2⟩) hS (fun p_12 V_13 H locs h hV hS => ?_)
    obtain ⟨n_16, z_n_16, h9⟩ := bO_e h
    clear h; subst z_n_16; have h := h9; clear h9
    obtain ⟨o_17, e_18, h⟩ := bO_e h
    refine v_cast S hK hV e_18 ct_SaidSo_Thing q1001 dX1_look_27 ?_
    refine lv_astore_n (lv' := [(3, .ref n_16), (0, .ref a0), (1, .int a1), (2, .int a2)]) hx hb dX1_look_30 rfl hl (by decide) rfl (fun ls hl => ?_)
    refine lv_iload_n hx hb dX1_look_31 rfl (lv_at hl 3 rfl) ?_
    by_cases c_19 : a2 = 0
    · replace h := h.1 c_19
      refine lv_tableIn (tgt := 64) hx hb dX1_look_32 (by rw [c_19]; decide) (by rw [c_19]; decide) (by rw [c_19]; rfl) (by decide) ?_
      refine lv_aload_n hx hb dX1_look_64 rfl (lv_at hl 0 rfl) ?_
      obtain ⟨g_20, e_21, h⟩ := bO_e h
      refine vg_i S hK hV fX1_141 e_21 dX1_look_65 ?_
      exact vx_ret (ve_i S hlocks hret hV hS h rfl hk.1 hk.2 dX1_look_68)
    · replace h := h.2 c_19
      by_cases c_22 : a2 = 1
      · replace h := h.1 c_22
        refine lv_tableIn (tgt := 69) hx hb dX1_look_32 (by rw [c_22]; decide) (by rw [c_22]; decide) (by rw [c_22]; rfl) (by decide) ?_
        refine lv_aload_n hx hb dX1_look_69 rfl (lv_at hl 0 rfl) ?_
        obtain ⟨g_23, e_24, h⟩ := bO_e h
        refine vg_i S hK hV fX1_144 e_24 dX1_look_70 ?_
        exact vx_ret (ve_i S hlocks hret hV hS h rfl hk.1 hk.2 dX1_look_73)
      · replace h := h.2 c_22
        by_cases c_25 : a2 = 2
        · replace h := h.1 c_25
          refine lv_tableIn (tgt := 74) hx hb dX1_look_32 (by rw [c_25]; decide) (by rw [c_25]; decide) (by rw [c_25]; rfl) (by decide) ?_
          refine lv_aload_n hx hb dX1_look_74 rfl (lv_at hl 0 rfl) ?_
          obtain ⟨g_26, e_27, h⟩ := bO_e h
          refine vg_i S hK hV fX1_147 e_27 dX1_look_75 ?_
          exact vx_ret (ve_i S hlocks hret hV hS h rfl hk.1 hk.2 dX1_look_78)
        · replace h := h.2 c_25
          by_cases c_28 : a2 = 3
          · replace h := h.1 c_28
            refine lv_tableIn (tgt := 79) hx hb dX1_look_32 (by rw [c_28]; decide) (by rw [c_28]; decide) (by rw [c_28]; rfl) (by decide) ?_
            refine lv_aload_n hx hb dX1_look_79 rfl (lv_at hl 0 rfl) ?_
            obtain ⟨g_29, e_30, h⟩ := bO_e h
            refine vg_i S hK hV fX1_150 e_30 dX1_look_80 ?_
            exact vx_ret (ve_i S hlocks hret hV hS h rfl hk.1 hk.2 dX1_look_83)
          · replace h := h.2 c_28
            refine lv_tableOut (tgt := 84) hx hb dX1_look_32 (by have z0 := sw_n (n := 0) c_19 rfl; have z1 := sw_n (n := 1) c_22 rfl; have z2 := sw_n (n := 2) c_25 rfl; have z3 := sw_n (n := 3) c_28 rfl; omega) (by decide) ?_
            obtain ⟨hc1, hc2, h⟩ := h
            exact vt_0 (k := 3) (names := ["java/lang/RuntimeException", "java/lang/Exception"]) (ik := 153) (ic := 155) S hK hG hV hS htab hlocks hT rfl (by decide) (by decide) q1387 q173 (hat_155 S.2.2.2.2 hK.2) (by decide +kernel) dX1_look_84 dX1_look_87 dX1_look_88 dX1_look_91 (Nat.le_of_ble_eq_true rfl) (Nat.le_of_ble_eq_true rfl) h hc1 hc2 hl.1 (Nat.le_refl _) (Nat.le_refl _)
  · replace h := h.1 c_5
    obtain ⟨hc1, hc2, h⟩ := h
    exact vt_0 (k := 2) (names := ["java/lang/RuntimeException", "java/lang/Exception"]) (ik := 132) (ic := 134) S hK hG hV hS htab hlocks hT rfl (by decide) (by decide) q1366 q171 (hat_134 S.2.2.2.2 hK.2) (by decide +kernel) dX1_look_8 dX1_look_11 dX1_look_12 dX1_look_15 (Nat.le_of_ble_eq_true rfl) (Nat.le_of_ble_eq_true rfl) h hc1 hc2 hl.1 (Nat.le_refl _) (Nat.le_refl _)
def vX11_init (cA : Nat → ClassId) (a0 : Nat) (a1 : Int32) (a2 : Int32) (a3 : Int32) (V : VS) (Post : VS → Prop) : Prop := bO (pF V [9] a0 0 (.int a1)) (fun V_1 => bO (pF V_1 [9] a0 1 (.int a2)) (fun V_3 => bO (pF V_3 [9] a0 2 (.int a3)) (fun V_5 => Post V_5)))
abbrev rX11_init : Room := { frames := 1, cells := 0, slots := 0, locals := 24 }
theorem cdX11_init : yX11_init.cls ≠ "java/lang/invoke/MethodHandle" ∧ yX11_init.cls ≠ "java/lang/invoke/VarHandle" ∧ (parseMethodDescriptor yX11_init.desc).map (fun d => d.parameters.length) = some 3 := by decide +kernel
set_option maxHeartbeats 4000000 in
set_option maxRecDepth 100000 in
theorem mvX11_init (l : Launch) {D : va_G} {cA : Nat → ClassId} {A : Nat → Prop} (a0 : Nat) (a1 : Int32) (a2 : Int32) (a3 : Int32) (V : VS) (Post : VS → Prop) (h : vX11_init cA a0 a1 a2 a3 V Post) : Met l yX11_init (ws_ yX11_init cX11_init 4 none) rX11_init (vPc [.ref a0, .int a1, .int a2, .int a3] D cA A V) (va_Qv Post (vB D A) A) 0 0 A := by
  refine vstM (own := RX11) (by decide) rfl (Nat.le_of_ble_eq_true rfl) ?_
  intro p e s m args below meth c ls X hret hV hS hl
  obtain ⟨S, hK, hG, hA, hnm, hlocks⟩ := X
  have hx := S.1
  have hb := S.2.1
  have hl : lv_has ls 4 [(0, .ref a0), (1, .int a1), (2, .int a2), (3, .int a3)] := hl
  unfold vX11_init at h
  refine lv_aload_n hx hb dX11_init_0 rfl (lv_at hl 0 rfl) ?_
  refine W.objInit hx hb S.2.2.2.1 (S.2.2.2.2 _ q851) (S.2.2.2.2 _ q181) (S.2.2.2.2 _ q182) rfl (hl.1.trans S.2.2.1.symm) rfl dX11_init_1 (Nat.le_of_ble_eq_true rfl) (Nat.le_of_ble_eq_true rfl) ?_
  refine W.eq (g2 := F0 m 4 ls []) rfl ?_
  refine lv_aload_n hx hb dX11_init_4 rfl (lv_at hl 0 rfl) ?_
  refine lv_iload_n hx hb dX11_init_5 rfl (lv_at hl 1 rfl) ?_
  obtain ⟨V_1, e_2, h⟩ := bO_e h
  refine vp_v (v := .int a1) S hK hV hS fX11_7 (Or.inr ⟨hnm, by decide +kernel, by decide +kernel⟩) rfl rfl e_2 dX11_init_6 (fun H locs hV hS => ?_)
  refine lv_aload_n hx hb dX11_init_9 rfl (lv_at hl 0 rfl) ?_
  refine lv_iload_n hx hb dX11_init_10 rfl (lv_at hl 2 rfl) ?_
  obtain ⟨V_3, e_4, h⟩ := bO_e h
  refine vp_v (v := .int a2) S hK hV hS fX11_13 (Or.inr ⟨hnm, by decide +kernel, by decide +kernel⟩) rfl rfl e_4 dX11_init_11 (fun H locs hV hS => ?_)
  refine lv_aload_n hx hb dX11_init_14 rfl (lv_at hl 0 rfl) ?_
  refine lv_iload_n hx hb dX11_init_15 rfl (lv_at hl 3 rfl) ?_
  obtain ⟨V_5, e_6, h⟩ := bO_e h
  refine vp_v (v := .int a3) S hK hV hS fX11_16 (Or.inr ⟨hnm, by decide +kernel, by decide +kernel⟩) rfl rfl e_6 dX11_init_16 (fun H locs hV hS => ?_)
  exact ve_v S hlocks hret hV hS h (Nat.le_refl _) (Nat.le_refl _) dX11_init_19
def vX12_init (cA : Nat → ClassId) (a0 : Nat) (V : VS) (Post : VS → Prop) : Prop := Post V
abbrev rX12_init : Room := { frames := 1, cells := 0, slots := 0, locals := 24 }
theorem cdX12_init : yX12_init.cls ≠ "java/lang/invoke/MethodHandle" ∧ yX12_init.cls ≠ "java/lang/invoke/VarHandle" ∧ (parseMethodDescriptor yX12_init.desc).map (fun d => d.parameters.length) = some 0 := by decide +kernel
set_option maxHeartbeats 4000000 in
set_option maxRecDepth 100000 in
theorem mvX12_init (l : Launch) {D : va_G} {cA : Nat → ClassId} {A : Nat → Prop} (a0 : Nat) (V : VS) (Post : VS → Prop) (h : vX12_init cA a0 V Post) : Met l yX12_init (ws_ yX12_init cX12_init 1 none) rX12_init (vPc [.ref a0] D cA A V) (va_Qv Post (vB D A) A) 0 0 A := by
  refine vstM (own := RX12) (by decide) rfl (Nat.le_of_ble_eq_true rfl) ?_
  intro p e s m args below meth c ls X hret hV hS hl
  obtain ⟨S, hK, hG, hA, hnm, hlocks⟩ := X
  have hx := S.1
  have hb := S.2.1
  have hl : lv_has ls 1 [(0, .ref a0)] := hl
  unfold vX12_init at h
  refine lv_aload_n hx hb dX12_init_0 rfl (lv_at hl 0 rfl) ?_
  refine W.objInit hx hb S.2.2.2.1 (S.2.2.2.2 _ q909) (S.2.2.2.2 _ q181) (S.2.2.2.2 _ q182) rfl (hl.1.trans S.2.2.1.symm) rfl dX12_init_1 (Nat.le_of_ble_eq_true rfl) (Nat.le_of_ble_eq_true rfl) ?_
  refine W.eq (g2 := F0 m 4 ls []) rfl ?_
  exact ve_v S hlocks hret hV hS h (Nat.le_refl _) (Nat.le_refl _) dX12_init_4
def vX13_init (cA : Nat → ClassId) (a0 : Nat) (a1 : Int32) (V : VS) (Post : VS → Prop) : Prop := vX12_init cA a0 V (fun V_2 => bO (pF V_2 [10] a0 0 (.int a1)) (fun V_3 => Post V_3))
abbrev rX13_init : Room := { frames := 2, cells := 0, slots := 0, locals := 44 }
theorem cdX13_init : yX13_init.cls ≠ "java/lang/invoke/MethodHandle" ∧ yX13_init.cls ≠ "java/lang/invoke/VarHandle" ∧ (parseMethodDescriptor yX13_init.desc).map (fun d => d.parameters.length) = some 1 := by decide +kernel
set_option maxHeartbeats 4000000 in
set_option maxRecDepth 100000 in
theorem mvX13_init (l : Launch) {D : va_G} {cA : Nat → ClassId} {A : Nat → Prop} (a0 : Nat) (a1 : Int32) (V : VS) (Post : VS → Prop) (h : vX13_init cA a0 a1 V Post) : Met l yX13_init (ws_ yX13_init cX13_init 2 none) rX13_init (vPc [.ref a0, .int a1] D cA A V) (va_Qv Post (vB D A) A) 0 0 A := by
  refine vstM (own := RX13) (by decide) rfl (Nat.le_of_ble_eq_true rfl) ?_
  intro p e s m args below meth c ls X hret hV hS hl
  obtain ⟨S, hK, hG, hA, hnm, hlocks⟩ := X
  have hx := S.1
  have hb := S.2.1
  have hl : lv_has ls 2 [(0, .ref a0), (1, .int a1)] := hl
  unfold vX13_init at h
  refine lv_aload_n hx hb dX13_init_0 rfl (lv_at hl 0 rfl) ?_
  refine vk_v (vr_IN (As := []) (rest := []) S hK hG hA hV hS (mvX12_init l a0 V _ h) ⟨va_cnB 0 S.2.2.2.2 (lw_meth q908) rfl rfl rfl (hK.2.2.1 (_, _, _, "SaidSo") (List.mem_of_getElem? (i := 2) rfl)) (S.2.2.2.2 _ q165) cdX12_init ⟨Nat.le_of_ble_eq_true rfl, Nat.le_of_ble_eq_true rfl⟩, rfl, S.2.2.2.2 _ q907⟩ rfl hl.1 (Nat.le_of_ble_eq_true rfl) dX13_init_1 ⟨Nat.le_refl _, Nat.le_refl _⟩) hS (fun V_2 H locs h hV hS => ?_)
  refine lv_aload_n hx hb dX13_init_4 rfl (lv_at hl 0 rfl) ?_
  refine lv_iload_n hx hb dX13_init_5 rfl (lv_at hl 1 rfl) ?_
  obtain ⟨V_3, e_4, h⟩ := bO_e h
  refine vp_v (v := .int a1) S hK hV hS fX13_7 (Or.inr ⟨hnm, by decide +kernel, by decide +kernel⟩) rfl rfl e_4 dX13_init_6 (fun H locs hV hS => ?_)
  exact ve_v S hlocks hret hV hS h (Nat.le_refl _) (Nat.le_refl _) dX13_init_9
def vX14_init (cA : Nat → ClassId) (a0 : Nat) (a1 : Int32) (V : VS) (Post : VS → Prop) : Prop := vX12_init cA a0 V (fun V_2 => bO (pF V_2 [11] a0 0 (.int a1)) (fun V_3 => Post V_3))
abbrev rX14_init : Room := { frames := 2, cells := 0, slots := 0, locals := 44 }
theorem cdX14_init : yX14_init.cls ≠ "java/lang/invoke/MethodHandle" ∧ yX14_init.cls ≠ "java/lang/invoke/VarHandle" ∧ (parseMethodDescriptor yX14_init.desc).map (fun d => d.parameters.length) = some 1 := by decide +kernel
set_option maxHeartbeats 4000000 in
set_option maxRecDepth 100000 in
theorem mvX14_init (l : Launch) {D : va_G} {cA : Nat → ClassId} {A : Nat → Prop} (a0 : Nat) (a1 : Int32) (V : VS) (Post : VS → Prop) (h : vX14_init cA a0 a1 V Post) : Met l yX14_init (ws_ yX14_init cX14_init 2 none) rX14_init (vPc [.ref a0, .int a1] D cA A V) (va_Qv Post (vB D A) A) 0 0 A := by
  refine vstM (own := RX14) (by decide) rfl (Nat.le_of_ble_eq_true rfl) ?_
  intro p e s m args below meth c ls X hret hV hS hl
  obtain ⟨S, hK, hG, hA, hnm, hlocks⟩ := X
  have hx := S.1
  have hb := S.2.1
  have hl : lv_has ls 2 [(0, .ref a0), (1, .int a1)] := hl
  unfold vX14_init at h
  refine lv_aload_n hx hb dX14_init_0 rfl (lv_at hl 0 rfl) ?_
  refine vk_v (vr_IN (As := []) (rest := []) S hK hG hA hV hS (mvX12_init l a0 V _ h) ⟨va_cnB 0 S.2.2.2.2 (lw_meth q908) rfl rfl rfl (hK.2.2.1 (_, _, _, "SaidSo") (List.mem_of_getElem? (i := 3) rfl)) (S.2.2.2.2 _ q165) cdX12_init ⟨Nat.le_of_ble_eq_true rfl, Nat.le_of_ble_eq_true rfl⟩, rfl, S.2.2.2.2 _ q907⟩ rfl hl.1 (Nat.le_of_ble_eq_true rfl) dX14_init_1 ⟨Nat.le_refl _, Nat.le_refl _⟩) hS (fun V_2 H locs h hV hS => ?_)
  refine lv_aload_n hx hb dX14_init_4 rfl (lv_at hl 0 rfl) ?_
  refine lv_iload_n hx hb dX14_init_5 rfl (lv_at hl 1 rfl) ?_
  obtain ⟨V_3, e_4, h⟩ := bO_e h
  refine vp_v (v := .int a1) S hK hV hS fX14_7 (Or.inr ⟨hnm, by decide +kernel, by decide +kernel⟩) rfl rfl e_4 dX14_init_6 (fun H locs hV hS => ?_)
  exact ve_v S hlocks hret hV hS h (Nat.le_refl _) (Nat.le_refl _) dX14_init_9
def vX15_init (cA : Nat → ClassId) (a0 : Nat) (a1 : Nat) (V : VS) (Post : VS → Prop) : Prop := vX12_init cA a0 V (fun V_2 => bO (pF V_2 [12, 13] a0 0 (.ref a1)) (fun V_3 => Post V_3))
abbrev rX15_init : Room := { frames := 2, cells := 0, slots := 0, locals := 44 }
theorem cdX15_init : yX15_init.cls ≠ "java/lang/invoke/MethodHandle" ∧ yX15_init.cls ≠ "java/lang/invoke/VarHandle" ∧ (parseMethodDescriptor yX15_init.desc).map (fun d => d.parameters.length) = some 1 := by decide +kernel
set_option maxHeartbeats 4000000 in
set_option maxRecDepth 100000 in
theorem mvX15_init (l : Launch) {D : va_G} {cA : Nat → ClassId} {A : Nat → Prop} (a0 : Nat) (a1 : Nat) (V : VS) (Post : VS → Prop) (h : vX15_init cA a0 a1 V Post) : Met l yX15_init (ws_ yX15_init cX15_init 2 none) rX15_init (vPc [.ref a0, .ref a1] D cA A V) (va_Qv Post (vB D A) A) 0 0 A := by
  refine vstM (own := RX15) (by decide) rfl (Nat.le_of_ble_eq_true rfl) ?_
  intro p e s m args below meth c ls X hret hV hS hl
  obtain ⟨S, hK, hG, hA, hnm, hlocks⟩ := X
  have hx := S.1
  have hb := S.2.1
  have hl : lv_has ls 2 [(0, .ref a0), (1, .ref a1)] := hl
  unfold vX15_init at h
  refine lv_aload_n hx hb dX15_init_0 rfl (lv_at hl 0 rfl) ?_
  refine vk_v (vr_IN (As := []) (rest := []) S hK hG hA hV hS (mvX12_init l a0 V _ h) ⟨va_cnB 0 S.2.2.2.2 (lw_meth q908) rfl rfl rfl (hK.2.2.1 (_, _, _, "SaidSo") (List.mem_of_getElem? (i := 4) rfl)) (S.2.2.2.2 _ q165) cdX12_init ⟨Nat.le_of_ble_eq_true rfl, Nat.le_of_ble_eq_true rfl⟩, rfl, S.2.2.2.2 _ q907⟩ rfl hl.1 (Nat.le_of_ble_eq_true rfl) dX15_init_1 ⟨Nat.le_refl _, Nat.le_refl _⟩) hS (fun V_2 H locs h hV hS => ?_)
  refine lv_aload_n hx hb dX15_init_4 rfl (lv_at hl 0 rfl) ?_
  refine lv_aload_n hx hb dX15_init_5 rfl (lv_at hl 1 rfl) ?_
  obtain ⟨V_3, e_4, h⟩ := bO_e h
  refine vp_v (v := .ref a1) S hK hV hS fX15_7 (Or.inr ⟨hnm, by decide +kernel, by decide +kernel⟩) (va_rf_nar (r := some a1)).1 (va_rf_nar (r := some a1)).2 e_4 dX15_init_6 (fun H locs hV hS => ?_)
  exact ve_v S hlocks hret hV hS h (Nat.le_refl _) (Nat.le_refl _) dX15_init_9
def vX16_init (cA : Nat → ClassId) (a0 : Nat) (a1 : Int32) (a2 : Nat) (a3 : Nat) (V : VS) (Post : VS → Prop) : Prop := vX15_init cA a0 a2 V (fun V_2 => bO (pF V_2 [13] a0 1 (.int a1)) (fun V_3 => bO (pF V_3 [13] a0 2 (.ref a3)) (fun V_5 => Post V_5)))
abbrev rX16_init : Room := { frames := 3, cells := 0, slots := 0, locals := 65 }
theorem cdX16_init : yX16_init.cls ≠ "java/lang/invoke/MethodHandle" ∧ yX16_init.cls ≠ "java/lang/invoke/VarHandle" ∧ (parseMethodDescriptor yX16_init.desc).map (fun d => d.parameters.length) = some 3 := by decide +kernel
set_option maxHeartbeats 4000000 in
set_option maxRecDepth 100000 in
theorem mvX16_init (l : Launch) {D : va_G} {cA : Nat → ClassId} {A : Nat → Prop} (a0 : Nat) (a1 : Int32) (a2 : Nat) (a3 : Nat) (V : VS) (Post : VS → Prop) (h : vX16_init cA a0 a1 a2 a3 V Post) : Met l yX16_init (ws_ yX16_init cX16_init 4 none) rX16_init (vPc [.ref a0, .int a1, .ref a2, .ref a3] D cA A V) (va_Qv Post (vB D A) A) 0 0 A := by
  refine vstM (own := RX16) (by decide) rfl (Nat.le_of_ble_eq_true rfl) ?_
  intro p e s m args below meth c ls X hret hV hS hl
  obtain ⟨S, hK, hG, hA, hnm, hlocks⟩ := X
  have hx := S.1
  have hb := S.2.1
  have hl : lv_has ls 4 [(0, .ref a0), (1, .int a1), (2, .ref a2), (3, .ref a3)] := hl
  unfold vX16_init at h
  refine lv_aload_n hx hb dX16_init_0 rfl (lv_at hl 0 rfl) ?_
  refine lv_aload_n hx hb dX16_init_1 rfl (lv_at hl 2 rfl) ?_
  refine vk_v (vr_I (As := [.ref a2]) (rest := []) S hK hG hA hV hS (mvX15_init l a0 a2 V _ h) (cwI 1 S.2.2.2.2 (lw_meth q935) rfl rfl rfl (S.2.2.2.2 _ q168) (S.2.2.2.2 _ q933) (S.2.2.2.2 _ q934) rfl cdX15_init ⟨Nat.le_of_ble_eq_true rfl, Nat.le_of_ble_eq_true rfl⟩) rfl hl.1 (Nat.le_of_ble_eq_true rfl) dX16_init_2 ⟨Nat.le_refl _, Nat.le_refl _⟩) hS (fun V_2 H locs h hV hS => ?_)
  refine lv_aload_n hx hb dX16_init_5 rfl (lv_at hl 0 rfl) ?_
  refine lv_iload_n hx hb dX16_init_6 rfl (lv_at hl 1 rfl) ?_
  obtain ⟨V_3, e_4, h⟩ := bO_e h
  refine vp_v (v := .int a1) S hK hV hS fX16_9 (Or.inr ⟨hnm, by decide +kernel, by decide +kernel⟩) rfl rfl e_4 dX16_init_7 (fun H locs hV hS => ?_)
  refine lv_aload_n hx hb dX16_init_10 rfl (lv_at hl 0 rfl) ?_
  refine lv_aload_n hx hb dX16_init_11 rfl (lv_at hl 3 rfl) ?_
  obtain ⟨V_5, e_6, h⟩ := bO_e h
  refine vp_v (v := .ref a3) S hK hV hS fX16_15 (Or.inr ⟨hnm, by decide +kernel, by decide +kernel⟩) (va_rf_nar (r := some a3)).1 (va_rf_nar (r := some a3)).2 e_6 dX16_init_12 (fun H locs hV hS => ?_)
  exact ve_v S hlocks hret hV hS h (Nat.le_refl _) (Nat.le_refl _) dX16_init_15
def vX2_here (cA : Nat → ClassId) (a0 : Nat) (V : VS) (Post : Int32 → VS → Prop) : Prop := bO (gI V [2] a0 0) (fun g_1 => bO (gI V [2] a0 1) (fun g_3 => (g_3 ≤ g_1 → (Post (-1 : Int32) V)) ∧ (¬ (g_3 ≤ g_1) → (bO (gR V [2] a0 7) (fun p_6 => bO p_6 (fun n_8 => bO (gR V [1] n_8 0) (fun p_9 => bO (gI V [2] a0 0) (fun g_11 => bO p_9 (fun n_13 => bO (lI V (cA 3) n_13 g_11) (fun g_14 => Post (g_14 &&& (255 : Int32)) V))))))))))
abbrev rX2_here : Room := { frames := 0, cells := 0, slots := 0, locals := 0 }
theorem cdX2_here : yX2_here.cls = RX2 ∧ yX2_here.cls ≠ "java/lang/invoke/MethodHandle" ∧ yX2_here.cls ≠ "java/lang/invoke/VarHandle" ∧ (parseMethodDescriptor yX2_here.desc).map (fun d => d.parameters.length) = some 0 := by decide +kernel
set_option maxHeartbeats 4000000 in
set_option maxRecDepth 100000 in
theorem mvX2_here (l : Launch) {D : va_G} {cA : Nat → ClassId} {A : Nat → Prop} (a0 : Nat) (V : VS) (Post : Int32 → VS → Prop) (h : vX2_here cA a0 V Post) : Met l yX2_here (ws_ yX2_here cX2_here 1 (some (.int))) rX2_here (vPc [.ref a0] D cA A V) (va_Qi Post (vB D A) A) 0 0 A := by
  refine vstM (own := RX2) (by decide) rfl (Nat.le_of_ble_eq_true rfl) ?_
  intro p e s m args below meth c ls X hret hV hS hl
  obtain ⟨S, hK, hG, hA, hnm, hlocks⟩ := X
  have hx := S.1
  have hb := S.2.1
  have hl : lv_has ls 1 [(0, .ref a0)] := hl
  unfold vX2_here at h
  refine lv_aload_n hx hb dX2_here_0 rfl (lv_at hl 0 rfl) ?_
  obtain ⟨g_1, e_2, h⟩ := bO_e h
  refine vg_i S hK hV fX2_15 e_2 dX2_here_1 ?_
  refine lv_aload_n hx hb dX2_here_4 rfl (lv_at hl 0 rfl) ?_
  obtain ⟨g_3, e_4, h⟩ := bO_e h
  refine vg_i S hK hV fX2_19 e_4 dX2_here_5 ?_
  refine lv_icmp_ge (tgt := 30) hx hb dX2_here_8 (by decide) (fun c_5 => ?_) (fun c_5 => ?_)
  · replace h := h.1 c_5
    refine lv_iconst hx hb dX2_here_30 kc_m1 ?_
    exact ve_i S hlocks hret hV hS h rfl (Nat.le_refl _) (Nat.le_refl _) dX2_here_31
  · replace h := h.2 c_5
    refine lv_aload_n hx hb dX2_here_11 rfl (lv_at hl 0 rfl) ?_
    obtain ⟨p_6, e_7, h⟩ := bO_e h
    refine vg_r S hK hV fX2_3 e_7 dX2_here_12 ?_
    obtain ⟨n_8, z_n_8, h9⟩ := bO_e h
    clear h; subst z_n_8; have h := h9; clear h9
    obtain ⟨p_9, e_10, h⟩ := bO_e h
    refine vg_r S hK hV fX2_22 e_10 dX2_here_15 ?_
    refine lv_aload_n hx hb dX2_here_18 rfl (lv_at hl 0 rfl) ?_
    obtain ⟨g_11, e_12, h⟩ := bO_e h
    refine vg_i S hK hV fX2_15 e_12 dX2_here_19 ?_
    obtain ⟨n_13, z_n_13, h9⟩ := bO_e h
    clear h; subst z_n_13; have h := h9; clear h9
    obtain ⟨g_14, e_15, h⟩ := bO_e h
    refine vl_b S hK hV e_15 dX2_here_22 ?_
    refine lv_sipush hx hb dX2_here_23 ks_255 ?_
    refine lv_iand hx hb dX2_here_26 ?_
    refine lv_goto (tgt := 31) hx hb dX2_here_27 (by decide) ?_
    exact ve_i S hlocks hret hV hS h rfl (Nat.le_refl _) (Nat.le_refl _) dX2_here_31
def vX2_word_c95 (cA : Nat → ClassId) (a0 : Nat) (k2 : Int32 → VS → Prop) (Post : Int32 → VS → Prop) (x1 : Int32) (V : VS) : Prop := ∀ v_19 : Int32, v_19 = x1 + (1 : Int32) → k2 v_19 V
def vX2_word_c80 (cA : Nat → ClassId) (a0 : Nat) (k2 : Int32 → VS → Prop) (Post : Int32 → VS → Prop) (x1 : Int32) (x2 : Int32) (V : VS) : Prop := bO (gI V [2] a0 2) (fun g_14 => bO (gI V [2] a0 0) (fun g_16 => ((g_14 + x2) = g_16 → (Post x1 V)) ∧ (¬ ((g_14 + x2) = g_16) → (vX2_word_c95 cA a0 k2 Post x1 V))))
def vX2_word_l35 (cA : Nat → ClassId) (a0 : Nat) (k2 : Int32 → VS → Prop) (Post : Int32 → VS → Prop) : Nat → Int32 → Int32 → VS → Prop
  | 0, _, _, _ => False
  | n + 1, x1, x2, V => bO (gI V [2] a0 2) (fun g_9 => bO (gI V [2] a0 0) (fun g_11 => (g_11 ≤ (g_9 + x2) → (vX2_word_c80 cA a0 k2 Post x1 x2 V)) ∧ (¬ (g_11 ≤ (g_9 + x2)) → ((vp_in x1 27 ∧ wJ3_charAt (nmLen (Int32.toNatClampNeg x1)) (nmB (Int32.toNatClampNeg x1)) x2 (fun r_21 => bO (gR V [2] a0 7) (fun p_22 => bO p_22 (fun n_24 => bO (gR V [1] n_24 0) (fun p_25 => bO (gI V [2] a0 2) (fun g_27 => bO p_25 (fun n_29 => bO (lI V (cA 3) n_29 (g_27 + x2)) (fun g_30 => (r_21 = g_30 → (∀ v_33 : Int32, v_33 = x2 + (1 : Int32) → vX2_word_l35 cA a0 k2 Post n x1 v_33 V)) ∧ (¬ (r_21 = g_30) → (vX2_word_c80 cA a0 k2 Post x1 x2 V))))))))))))))
def vX2_word_l2 (cA : Nat → ClassId) (a0 : Nat) (Post : Int32 → VS → Prop) : Nat → Int32 → VS → Prop
  | 0, _, _ => False
  | n + 1, x1, V => ((27 : Int32) ≤ x1 → (Post (-1 : Int32) V)) ∧ (¬ ((27 : Int32) ≤ x1) → ((vp_in x1 27 ∧ wJ3_length (nmLen (Int32.toNatClampNeg x1)) (nmB (Int32.toNatClampNeg x1)) (fun r_3 => bO (gI V [2] a0 0) (fun g_4 => bO (gI V [2] a0 2) (fun g_6 => (r_3 = (g_4 - g_6) → (∃ f, vX2_word_l35 cA a0 (vX2_word_l2 cA a0 Post n) Post f x1 (0 : Int32) V)) ∧ (¬ (r_3 = (g_4 - g_6)) → (vX2_word_c95 cA a0 (vX2_word_l2 cA a0 Post n) Post x1 V))))))))
def vX2_word (cA : Nat → ClassId) (a0 : Nat) (V : VS) (Post : Int32 → VS → Prop) : Prop := ∃ f, vX2_word_l2 cA a0 Post f (0 : Int32) V
abbrev rX2_word : Room := { frames := 4, cells := 0, slots := 0, locals := 85 }
theorem cdX2_word : yX2_word.cls = RX2 ∧ yX2_word.cls ≠ "java/lang/invoke/MethodHandle" ∧ yX2_word.cls ≠ "java/lang/invoke/VarHandle" ∧ (parseMethodDescriptor yX2_word.desc).map (fun d => d.parameters.length) = some 0 := by decide +kernel
set_option maxHeartbeats 4000000 in
set_option maxRecDepth 100000 in
theorem mvX2_word (l : Launch) {D : va_G} {cA : Nat → ClassId} {A : Nat → Prop} (a0 : Nat) (V : VS) (Post : Int32 → VS → Prop) (h : vX2_word cA a0 V Post) : Met l yX2_word (ws_ yX2_word cX2_word 3 (some (.int))) rX2_word (vPc [.ref a0] D cA A V) (va_Qi Post (vB D A) A) 0 0 A := by
  refine vstM (own := RX2) (by decide) rfl (Nat.le_of_ble_eq_true rfl) ?_
  intro p e s m args below meth c ls X hret hV hS hl
  obtain ⟨S, hK, hG, hA, hnm, hlocks⟩ := X
  have hx := S.1
  have hb := S.2.1
  have hl : lv_has ls 3 [(0, .ref a0)] := hl
  obtain ⟨tn, adK, hn1, hn2, hn3⟩ := hG.2.2.2.2.1
  obtain ⟨sgA, hg1, hg2⟩ := hG.2.2.2.2.2
  have C95 : ∀ (k2 : Int32 → VS → Prop) (K2 : (∀ (x1 : Int32) (V : VS) (H : Heap) (locs : List Loc) (ls : Array Slot), HV D A V H → va_S A s.heap H locs → lv_has ls 3 [(0, .ref a0), (1, .int x1)] → k2 x1 V → W p l e rX2_word s m args below meth c H locs 0 0 (MQ below (va_Qi Post (vB D A) A) args s 0 0 A) (F0 m 2 ls []))), ∀ (x1 : Int32) (V : VS) (H : Heap) (locs : List Loc) (ls : Array Slot), HV D A V H → va_S A s.heap H locs → lv_has ls 3 [(0, .ref a0), (1, .int x1)] → vX2_word_c95 cA a0 k2 Post x1 V → W p l e rX2_word s m args below meth c H locs 0 0 (MQ below (va_Qi Post (vB D A) A) args s 0 0 A) (F0 m 95 ls []) := by
    intro k2 K2
    intro x1 V H locs ls hV hS hl h
    unfold vX2_word_c95 at h
    obtain ⟨v_19, e_v_19⟩ : ∃ y : Int32, y = x1 + (1 : Int32) := ⟨_, rfl⟩
    replace h := h v_19 e_v_19
    refine lv_iinc (v := v_19) (lv' := [(1, .int v_19), (0, .ref a0)]) hx hb dX2_word_95 hl (k := 1) rfl (by rw [kc_1, e_v_19]) (by decide) rfl (fun ls hl => ?_)
    refine lv_goto (tgt := 2) hx hb dX2_word_98 (by decide) ?_
    exact K2 _ _ _ _ _ hV hS (lv_sub hl [1, 0] rfl) h
  have C80 : ∀ (k2 : Int32 → VS → Prop) (K2 : (∀ (x1 : Int32) (V : VS) (H : Heap) (locs : List Loc) (ls : Array Slot), HV D A V H → va_S A s.heap H locs → lv_has ls 3 [(0, .ref a0), (1, .int x1)] → k2 x1 V → W p l e rX2_word s m args below meth c H locs 0 0 (MQ below (va_Qi Post (vB D A) A) args s 0 0 A) (F0 m 2 ls []))), ∀ (x1 : Int32) (x2 : Int32) (V : VS) (H : Heap) (locs : List Loc) (ls : Array Slot), HV D A V H → va_S A s.heap H locs → lv_has ls 3 [(0, .ref a0), (1, .int x1), (2, .int x2)] → vX2_word_c80 cA a0 k2 Post x1 x2 V → W p l e rX2_word s m args below meth c H locs 0 0 (MQ below (va_Qi Post (vB D A) A) args s 0 0 A) (F0 m 80 ls []) := by
    intro k2 K2
    intro x1 x2 V H locs ls hV hS hl h
    unfold vX2_word_c80 at h
    refine lv_aload_n hx hb dX2_word_80 rfl (lv_at hl 0 rfl) ?_
    obtain ⟨g_14, e_15, h⟩ := bO_e h
    refine vg_i S hK hV fX2_30 e_15 dX2_word_81 ?_
    refine lv_iload_n hx hb dX2_word_84 rfl (lv_at hl 2 rfl) ?_
    refine lv_iadd hx hb dX2_word_85 ?_
    refine lv_aload_n hx hb dX2_word_86 rfl (lv_at hl 0 rfl) ?_
    obtain ⟨g_16, e_17, h⟩ := bO_e h
    refine vg_i S hK hV fX2_15 e_17 dX2_word_87 ?_
    refine lv_icmp_ne (tgt := 95) hx hb dX2_word_90 (by decide) (fun c_18 => ?_) (fun c_18 => ?_)
    · replace h := h.2 c_18
      exact C95 _ K2 _ _ _ _ _ hV hS (lv_sub hl [0, 1] rfl) h
    · replace h := h.1 c_18
      refine lv_iload_n hx hb dX2_word_93 rfl (lv_at hl 1 rfl) ?_
      exact ve_i S hlocks hret hV hS h rfl (Nat.le_refl _) (Nat.le_refl _) dX2_word_94
  have L35 : ∀ (k2 : Int32 → VS → Prop) (K2 : (∀ (x1 : Int32) (V : VS) (H : Heap) (locs : List Loc) (ls : Array Slot), HV D A V H → va_S A s.heap H locs → lv_has ls 3 [(0, .ref a0), (1, .int x1)] → k2 x1 V → W p l e rX2_word s m args below meth c H locs 0 0 (MQ below (va_Qi Post (vB D A) A) args s 0 0 A) (F0 m 2 ls []))), ∀ (n : Nat) (x1 : Int32) (x2 : Int32) (V : VS) (H : Heap) (locs : List Loc) (ls : Array Slot), HV D A V H → va_S A s.heap H locs → lv_has ls 3 [(0, .ref a0), (1, .int x1), (2, .int x2)] → vX2_word_l35 cA a0 k2 Post n x1 x2 V → W p l e rX2_word s m args below meth c H locs 0 0 (MQ below (va_Qi Post (vB D A) A) args s 0 0 A) (F0 m 35 ls []) := by
    intro k2 K2
    intro n
    induction n with
    | zero => intro x1 x2 V H locs ls hV hS hl h; rw [vX2_word_l35] at h; exact h.elim
    | succ n ih =>
      intro x1 x2 V H locs ls hV hS hl h
      rw [vX2_word_l35] at h
      refine lv_aload_n hx hb dX2_word_35 rfl (lv_at hl 0 rfl) ?_
      obtain ⟨g_9, e_10, h⟩ := bO_e h
      refine vg_i S hK hV fX2_30 e_10 dX2_word_36 ?_
      refine lv_iload_n hx hb dX2_word_39 rfl (lv_at hl 2 rfl) ?_
      refine lv_iadd hx hb dX2_word_40 ?_
      refine lv_aload_n hx hb dX2_word_41 rfl (lv_at hl 0 rfl) ?_
      obtain ⟨g_11, e_12, h⟩ := bO_e h
      refine vg_i S hK hV fX2_15 e_12 dX2_word_42 ?_
      refine lv_icmp_ge (tgt := 80) hx hb dX2_word_45 (by decide) (fun c_13 => ?_) (fun c_13 => ?_)
      · replace h := h.1 c_13
        exact C80 _ K2 _ _ _ _ _ _ hV hS (lv_sub hl [0, 1, 2] rfl) h
      · replace h := h.2 c_13
        refine va_getsN (host := "SaidSo") hx hb hn1 hS S.2.2.2.1 (va_Nw.use rfl (hK.2.1 (_, _, _, _, _, "SaidSo") (List.mem_of_getElem? (i := 29) rfl))) (fun _ h => h) dX2_word_48 ?_
        refine lv_iload_n hx hb dX2_word_51 rfl (lv_at hl 1 rfl) ?_
        obtain ⟨hi, h⟩ := h
        have hj_20 := vp_lt hi
        refine vb_tq (v := .ref (adK (Int32.toNatClampNeg x1))) hx hb hn2 hS hi rfl dX2_word_52 ?_
        refine lv_iload_n hx hb dX2_word_53 rfl (lv_at hl 2 rfl) ?_
        refine kc_i (As := [.int x2]) (rest := []) S hG.2.2.2.1 (hn3 _ hj_20) hS (mtJ3_charAt l (A := A) (adK (Int32.toNatClampNeg x1)) (nmLen (Int32.toNatClampNeg x1)) (nmB (Int32.toNatClampNeg x1)) x2 _ h) (cwV 1 S.2.2.2.2 (lw_V q401 q402 q403 q146 q404) rfl rfl rfl cdJ3_charAt ⟨Nat.le_of_ble_eq_true rfl, Nat.le_of_ble_eq_true rfl⟩) rfl rfl hl.1 (Nat.le_of_ble_eq_true rfl) dX2_word_54 ⟨Nat.le_refl _, Nat.le_refl _⟩ (fun r_21 h => ?_)
        refine lv_aload_n hx hb dX2_word_57 rfl (lv_at hl 0 rfl) ?_
        obtain ⟨p_22, e_23, h⟩ := bO_e h
        refine vg_r S hK hV fX2_3 e_23 dX2_word_58 ?_
        obtain ⟨n_24, z_n_24, h9⟩ := bO_e h
        clear h; subst z_n_24; have h := h9; clear h9
        obtain ⟨p_25, e_26, h⟩ := bO_e h
        refine vg_r S hK hV fX2_22 e_26 dX2_word_61 ?_
        refine lv_aload_n hx hb dX2_word_64 rfl (lv_at hl 0 rfl) ?_
        obtain ⟨g_27, e_28, h⟩ := bO_e h
        refine vg_i S hK hV fX2_30 e_28 dX2_word_65 ?_
        refine lv_iload_n hx hb dX2_word_68 rfl (lv_at hl 2 rfl) ?_
        refine lv_iadd hx hb dX2_word_69 ?_
        obtain ⟨n_29, z_n_29, h9⟩ := bO_e h
        clear h; subst z_n_29; have h := h9; clear h9
        obtain ⟨g_30, e_31, h⟩ := bO_e h
        refine vl_b S hK hV e_31 dX2_word_70 ?_
        refine lv_icmp_ne (tgt := 80) hx hb dX2_word_71 (by decide) (fun c_32 => ?_) (fun c_32 => ?_)
        · replace h := h.2 c_32
          exact C80 _ K2 _ _ _ _ _ _ hV hS (lv_sub hl [0, 1, 2] rfl) h
        · replace h := h.1 c_32
          obtain ⟨v_33, e_v_33⟩ : ∃ y : Int32, y = x2 + (1 : Int32) := ⟨_, rfl⟩
          replace h := h v_33 e_v_33
          refine lv_iinc (v := v_33) (lv' := [(2, .int v_33), (0, .ref a0), (1, .int x1)]) hx hb dX2_word_74 hl (k := 2) rfl (by rw [kc_1, e_v_33]) (by decide) rfl (fun ls hl => ?_)
          refine lv_goto (tgt := 35) hx hb dX2_word_77 (by decide) ?_
          exact ih _ _ _ _ _ _ hV hS (lv_sub hl [1, 2, 0] rfl) h
  have L2 : ∀ (n : Nat) (x1 : Int32) (V : VS) (H : Heap) (locs : List Loc) (ls : Array Slot), HV D A V H → va_S A s.heap H locs → lv_has ls 3 [(0, .ref a0), (1, .int x1)] → vX2_word_l2 cA a0 Post n x1 V → W p l e rX2_word s m args below meth c H locs 0 0 (MQ below (va_Qi Post (vB D A) A) args s 0 0 A) (F0 m 2 ls []) := by
    intro n
    induction n with
    | zero => intro x1 V H locs ls hV hS hl h; rw [vX2_word_l2] at h; exact h.elim
    | succ n ih =>
      intro x1 V H locs ls hV hS hl h
      rw [vX2_word_l2] at h
      refine lv_iload_n hx hb dX2_word_2 rfl (lv_at hl 1 rfl) ?_
      refine va_getsN (host := "SaidSo") hx hb hn1 hS S.2.2.2.1 (va_Nw.use rfl (hK.2.1 (_, _, _, _, _, "SaidSo") (List.mem_of_getElem? (i := 29) rfl))) (fun _ h => h) dX2_word_3 ?_
      refine va_tlen (v := 27) hx hb hn2 hS rfl dX2_word_6 ?_
      refine lv_icmp_ge (tgt := 101) hx hb dX2_word_7 (by decide) (fun c_1 => ?_) (fun c_1 => ?_)
      · replace h := h.1 c_1
        refine lv_iconst hx hb dX2_word_101 kc_m1 ?_
        exact ve_i S hlocks hret hV hS h rfl (Nat.le_refl _) (Nat.le_refl _) dX2_word_102
      · replace h := h.2 c_1
        refine va_getsN (host := "SaidSo") hx hb hn1 hS S.2.2.2.1 (va_Nw.use rfl (hK.2.1 (_, _, _, _, _, "SaidSo") (List.mem_of_getElem? (i := 29) rfl))) (fun _ h => h) dX2_word_10 ?_
        refine lv_iload_n hx hb dX2_word_13 rfl (lv_at hl 1 rfl) ?_
        obtain ⟨hi, h⟩ := h
        have hj_2 := vp_lt hi
        refine vb_tq (v := .ref (adK (Int32.toNatClampNeg x1))) hx hb hn2 hS hi rfl dX2_word_14 ?_
        refine kc_i (As := []) (rest := []) S hG.2.2.2.1 (hn3 _ hj_2) hS (mtJ3_length l (A := A) (adK (Int32.toNatClampNeg x1)) (nmLen (Int32.toNatClampNeg x1)) (nmB (Int32.toNatClampNeg x1)) _ h) (cwV 0 S.2.2.2.2 (lw_V q391 q392 q393 q146 q394) rfl rfl rfl cdJ3_length ⟨Nat.le_of_ble_eq_true rfl, Nat.le_of_ble_eq_true rfl⟩) rfl rfl hl.1 (Nat.le_of_ble_eq_true rfl) dX2_word_15 ⟨Nat.le_refl _, Nat.le_refl _⟩ (fun r_3 h => ?_)
        refine lv_aload_n hx hb dX2_word_18 rfl (lv_at hl 0 rfl) ?_
        obtain ⟨g_4, e_5, h⟩ := bO_e h
        refine vg_i S hK hV fX2_15 e_5 dX2_word_19 ?_
        refine lv_aload_n hx hb dX2_word_22 rfl (lv_at hl 0 rfl) ?_
        obtain ⟨g_6, e_7, h⟩ := bO_e h
        refine vg_i S hK hV fX2_30 e_7 dX2_word_23 ?_
        refine lv_isub hx hb dX2_word_26 ?_
        refine lv_icmp_eq (tgt := 33) hx hb dX2_word_27 (by decide) (fun c_8 => ?_) (fun c_8 => ?_)
        · replace h := h.1 c_8
          refine lv_iconst hx hb dX2_word_33 kc_0 ?_
          refine lv_istore_n (lv' := [(2, .int (0 : Int32)), (0, .ref a0), (1, .int x1)]) hx hb dX2_word_34 rfl hl (by decide) rfl (fun ls hl => ?_)
          obtain ⟨f, h⟩ := h
          exact L35 _ ih f _ _ _ _ _ _ hV hS (lv_sub hl [1, 2, 0] rfl) h
        · replace h := h.2 c_8
          refine lv_goto (tgt := 95) hx hb dX2_word_30 (by decide) ?_
          exact C95 _ ih _ _ _ _ _ hV hS (lv_sub hl [0, 1] rfl) h
  unfold vX2_word at h
  refine lv_iconst hx hb dX2_word_0 kc_0 ?_
  refine lv_istore_n (lv' := [(1, .int (0 : Int32)), (0, .ref a0)]) hx hb dX2_word_1 rfl hl (by decide) rfl (fun ls hl => ?_)
  obtain ⟨f, h⟩ := h
  exact L2 f _ _ _ _ _ hV hS (lv_sub hl [1, 0] rfl) h
def vX2_name_c56 (cA : Nat → ClassId) (a0 : Nat) (k7 : Int32 → VS → Prop) (Post : VS → Prop) (x1 : Int32) (t0 : Int32) (t1 : Int32) (V : VS) : Prop := bO (pF V [2] a0 4 (.int (t1 ||| t0))) (fun V_11 => ∀ v_13 : Int32, v_13 = x1 + (1 : Int32) → k7 v_13 V_11)
def vX2_name_l7 (cA : Nat → ClassId) (a0 : Nat) (Post : VS → Prop) : Nat → Int32 → VS → Prop
  | 0, _, _ => False
  | n + 1, x1, V => ((6 : Int32) ≤ x1 → (Post V)) ∧ (¬ ((6 : Int32) ≤ x1) → (bO (gI V [2] a0 4) (fun g_4 => bO (gI V [2] a0 2) (fun g_6 => bO (gI V [2] a0 0) (fun g_8 => (g_8 ≤ (g_6 + x1) → (vX2_name_c56 cA a0 (vX2_name_l7 cA a0 Post n) Post x1 (0 : Int32) (g_4 <<< ((5 : Int32) &&& (31 : Int32))) V)) ∧ (¬ (g_8 ≤ (g_6 + x1)) → (bO (gR V [2] a0 7) (fun p_14 => bO p_14 (fun n_16 => bO (gR V [1] n_16 0) (fun p_17 => bO (gI V [2] a0 2) (fun g_19 => bO p_17 (fun n_21 => bO (lI V (cA 3) n_21 (g_19 + x1)) (fun g_22 => vX2_name_c56 cA a0 (vX2_name_l7 cA a0 Post n) Post x1 ((g_22 - (97 : Int32)) + (1 : Int32)) (g_4 <<< ((5 : Int32) &&& (31 : Int32))) V)))))))))))))
def vX2_name (cA : Nat → ClassId) (a0 : Nat) (V : VS) (Post : VS → Prop) : Prop := bO (pF V [2] a0 4 (.int (0 : Int32))) (fun V_1 => ∃ f, vX2_name_l7 cA a0 Post f (0 : Int32) V_1)
abbrev rX2_name : Room := { frames := 0, cells := 0, slots := 0, locals := 0 }
theorem cdX2_name : yX2_name.cls = RX2 ∧ yX2_name.cls ≠ "java/lang/invoke/MethodHandle" ∧ yX2_name.cls ≠ "java/lang/invoke/VarHandle" ∧ (parseMethodDescriptor yX2_name.desc).map (fun d => d.parameters.length) = some 0 := by decide +kernel
set_option maxHeartbeats 4000000 in
set_option maxRecDepth 100000 in
theorem mvX2_name (l : Launch) {D : va_G} {cA : Nat → ClassId} {A : Nat → Prop} (a0 : Nat) (V : VS) (Post : VS → Prop) (h : vX2_name cA a0 V Post) : Met l yX2_name (ws_ yX2_name cX2_name 2 none) rX2_name (vPc [.ref a0] D cA A V) (va_Qv Post (vB D A) A) 0 0 A := by
  refine vstM (own := RX2) (by decide) rfl (Nat.le_of_ble_eq_true rfl) ?_
  intro p e s m args below meth c ls X hret hV hS hl
  obtain ⟨S, hK, hG, hA, hnm, hlocks⟩ := X
  have hx := S.1
  have hb := S.2.1
  have hl : lv_has ls 2 [(0, .ref a0)] := hl
  have C56 : ∀ (k7 : Int32 → VS → Prop) (K7 : (∀ (x1 : Int32) (V : VS) (H : Heap) (locs : List Loc) (ls : Array Slot), HV D A V H → va_S A s.heap H locs → lv_has ls 2 [(0, .ref a0), (1, .int x1)] → k7 x1 V → W p l e rX2_name s m args below meth c H locs 0 0 (MQ below (va_Qv Post (vB D A) A) args s 0 0 A) (F0 m 7 ls []))), ∀ (x1 : Int32) (t0 : Int32) (t1 : Int32) (V : VS) (H : Heap) (locs : List Loc) (ls : Array Slot), HV D A V H → va_S A s.heap H locs → lv_has ls 2 [(0, .ref a0), (1, .int x1)] → vX2_name_c56 cA a0 k7 Post x1 t0 t1 V → W p l e rX2_name s m args below meth c H locs 0 0 (MQ below (va_Qv Post (vB D A) A) args s 0 0 A) (F0 m 56 ls [.int t0, .int t1, .ref a0]) := by
    intro k7 K7
    intro x1 t0 t1 V H locs ls hV hS hl h
    unfold vX2_name_c56 at h
    refine lv_ior hx hb dX2_name_56 ?_
    obtain ⟨V_11, e_12, h⟩ := bO_e h
    refine vp_v (v := .int (t1 ||| t0)) S hK hV hS fX2_43 (Or.inl rfl) rfl rfl e_12 dX2_name_57 (fun H locs hV hS => ?_)
    obtain ⟨v_13, e_v_13⟩ : ∃ y : Int32, y = x1 + (1 : Int32) := ⟨_, rfl⟩
    replace h := h v_13 e_v_13
    refine lv_iinc (v := v_13) (lv' := [(1, .int v_13), (0, .ref a0)]) hx hb dX2_name_60 hl (k := 1) rfl (by rw [kc_1, e_v_13]) (by decide) rfl (fun ls hl => ?_)
    refine lv_goto (tgt := 7) hx hb dX2_name_63 (by decide) ?_
    exact K7 _ _ _ _ _ hV hS (lv_sub hl [1, 0] rfl) h
  have L7 : ∀ (n : Nat) (x1 : Int32) (V : VS) (H : Heap) (locs : List Loc) (ls : Array Slot), HV D A V H → va_S A s.heap H locs → lv_has ls 2 [(0, .ref a0), (1, .int x1)] → vX2_name_l7 cA a0 Post n x1 V → W p l e rX2_name s m args below meth c H locs 0 0 (MQ below (va_Qv Post (vB D A) A) args s 0 0 A) (F0 m 7 ls []) := by
    intro n
    induction n with
    | zero => intro x1 V H locs ls hV hS hl h; rw [vX2_name_l7] at h; exact h.elim
    | succ n ih =>
      intro x1 V H locs ls hV hS hl h
      rw [vX2_name_l7] at h
      refine lv_iload_n hx hb dX2_name_7 rfl (lv_at hl 1 rfl) ?_
      refine lv_bipush hx hb dX2_name_8 kb_6 ?_
      refine lv_icmp_ge (tgt := 66) hx hb dX2_name_10 (by decide) (fun c_3 => ?_) (fun c_3 => ?_)
      · replace h := h.1 c_3
        exact ve_v S hlocks hret hV hS h (Nat.le_refl _) (Nat.le_refl _) dX2_name_66
      · replace h := h.2 c_3
        refine lv_aload_n hx hb dX2_name_13 rfl (lv_at hl 0 rfl) ?_
        refine lv_aload_n hx hb dX2_name_14 rfl (lv_at hl 0 rfl) ?_
        obtain ⟨g_4, e_5, h⟩ := bO_e h
        refine vg_i S hK hV fX2_43 e_5 dX2_name_15 ?_
        refine lv_iconst hx hb dX2_name_18 kc_5 ?_
        refine lv_ishl hx hb dX2_name_19 ?_
        refine lv_aload_n hx hb dX2_name_20 rfl (lv_at hl 0 rfl) ?_
        obtain ⟨g_6, e_7, h⟩ := bO_e h
        refine vg_i S hK hV fX2_30 e_7 dX2_name_21 ?_
        refine lv_iload_n hx hb dX2_name_24 rfl (lv_at hl 1 rfl) ?_
        refine lv_iadd hx hb dX2_name_25 ?_
        refine lv_aload_n hx hb dX2_name_26 rfl (lv_at hl 0 rfl) ?_
        obtain ⟨g_8, e_9, h⟩ := bO_e h
        refine vg_i S hK hV fX2_15 e_9 dX2_name_27 ?_
        refine lv_icmp_ge (tgt := 55) hx hb dX2_name_30 (by decide) (fun c_10 => ?_) (fun c_10 => ?_)
        · replace h := h.1 c_10
          refine lv_iconst hx hb dX2_name_55 kc_0 ?_
          exact C56 _ ih _ _ _ _ _ _ _ hV hS (lv_sub hl [0, 1] rfl) h
        · replace h := h.2 c_10
          refine lv_aload_n hx hb dX2_name_33 rfl (lv_at hl 0 rfl) ?_
          obtain ⟨p_14, e_15, h⟩ := bO_e h
          refine vg_r S hK hV fX2_3 e_15 dX2_name_34 ?_
          obtain ⟨n_16, z_n_16, h9⟩ := bO_e h
          clear h; subst z_n_16; have h := h9; clear h9
          obtain ⟨p_17, e_18, h⟩ := bO_e h
          refine vg_r S hK hV fX2_22 e_18 dX2_name_37 ?_
          refine lv_aload_n hx hb dX2_name_40 rfl (lv_at hl 0 rfl) ?_
          obtain ⟨g_19, e_20, h⟩ := bO_e h
          refine vg_i S hK hV fX2_30 e_20 dX2_name_41 ?_
          refine lv_iload_n hx hb dX2_name_44 rfl (lv_at hl 1 rfl) ?_
          refine lv_iadd hx hb dX2_name_45 ?_
          obtain ⟨n_21, z_n_21, h9⟩ := bO_e h
          clear h; subst z_n_21; have h := h9; clear h9
          obtain ⟨g_22, e_23, h⟩ := bO_e h
          refine vl_b S hK hV e_23 dX2_name_46 ?_
          refine lv_bipush hx hb dX2_name_47 kb_97 ?_
          refine lv_isub hx hb dX2_name_49 ?_
          refine lv_iconst hx hb dX2_name_50 kc_1 ?_
          refine lv_iadd hx hb dX2_name_51 ?_
          refine lv_goto (tgt := 56) hx hb dX2_name_52 (by decide) ?_
          exact C56 _ ih _ _ _ _ _ _ _ hV hS (lv_sub hl [0, 1] rfl) h
  unfold vX2_name at h
  refine lv_aload_n hx hb dX2_name_0 rfl (lv_at hl 0 rfl) ?_
  refine lv_iconst hx hb dX2_name_1 kc_0 ?_
  obtain ⟨V_1, e_2, h⟩ := bO_e h
  refine vp_v (v := .int (0 : Int32)) S hK hV hS fX2_43 (Or.inl rfl) rfl rfl e_2 dX2_name_2 (fun H locs hV hS => ?_)
  refine lv_iconst hx hb dX2_name_5 kc_0 ?_
  refine lv_istore_n (lv' := [(1, .int (0 : Int32)), (0, .ref a0)]) hx hb dX2_name_6 rfl hl (by decide) rfl (fun ls hl => ?_)
  obtain ⟨f, h⟩ := h
  exact L7 f _ _ _ _ _ hV hS (lv_sub hl [1, 0] rfl) h
def vX2_sign_c110 (cA : Nat → ClassId) (a0 : Nat) (Post : VS → Prop) (V : VS) : Prop := bO (gI V [2] a0 4) (fun g_18 => (g_18 < (256 : Int32) → (Post V)) ∧ (¬ (g_18 < (256 : Int32)) → (bO (gI V [2] a0 0) (fun g_21 => bO (pF V [2] a0 0 (.int (g_21 + (1 : Int32)))) (fun V_23 => Post V_23)))))
def vX2_sign_c88 (cA : Nat → ClassId) (a0 : Nat) (Post : VS → Prop) (x1 : Int32) (V : VS) : Prop := (x1 = (62 : Int32) → (bO (vO V [2] a0) (fun o_27 => vX2_here cA a0 V (fun r_25 V_26 => (r_25 = (61 : Int32) → (bO (pF V_26 [2] a0 4 (.int (257 : Int32))) (fun V_30 => vX2_sign_c110 cA a0 Post V_30))) ∧ (¬ (r_25 = (61 : Int32)) → (vX2_sign_c110 cA a0 Post V_26)))))) ∧ (¬ (x1 = (62 : Int32)) → (vX2_sign_c110 cA a0 Post V))
def vX2_sign_c63 (cA : Nat → ClassId) (a0 : Nat) (Post : VS → Prop) (x1 : Int32) (V : VS) : Prop := (x1 = (60 : Int32) → (bO (vO V [2] a0) (fun o_34 => vX2_here cA a0 V (fun r_32 V_33 => (r_32 = (62 : Int32) → (bO (pF V_33 [2] a0 4 (.int (258 : Int32))) (fun V_37 => vX2_sign_c110 cA a0 Post V_37))) ∧ (¬ (r_32 = (62 : Int32)) → (vX2_sign_c88 cA a0 Post x1 V_33)))))) ∧ (¬ (x1 = (60 : Int32)) → (vX2_sign_c88 cA a0 Post x1 V))
def vX2_sign_c30 (cA : Nat → ClassId) (a0 : Nat) (Post : VS → Prop) (x1 : Int32) (t0 : Int32) (V : VS) : Prop := bO (pF V [2] a0 3 (.int t0)) (fun V_11 => bO (pF V_11 [2] a0 4 (.int x1)) (fun V_13 => (x1 = (60 : Int32) → (bO (vO V_13 [2] a0) (fun o_41 => vX2_here cA a0 V_13 (fun r_39 V_40 => (r_39 = (61 : Int32) → (bO (pF V_40 [2] a0 4 (.int (256 : Int32))) (fun V_44 => vX2_sign_c110 cA a0 Post V_44))) ∧ (¬ (r_39 = (61 : Int32)) → (vX2_sign_c63 cA a0 Post x1 V_40)))))) ∧ (¬ (x1 = (60 : Int32)) → (vX2_sign_c63 cA a0 Post x1 V_13))))
def vX2_sign (cA : Nat → ClassId) (a0 : Nat) (V : VS) (Post : VS → Prop) : Prop := bO (vO V [2] a0) (fun o_3 => vX2_here cA a0 V (fun r_1 V_2 => bO (gI V_2 [2] a0 0) (fun g_5 => bO (pF V_2 [2] a0 0 (.int (g_5 + (1 : Int32)))) (fun V_7 => wJ3_indexOf 10 sgB r_1 (fun r_9 => (r_9 < 0 → (vX2_sign_c30 cA a0 Post r_1 (5 : Int32) V_7)) ∧ (¬ (r_9 < 0) → (vX2_sign_c30 cA a0 Post r_1 (3 : Int32) V_7)))))))
abbrev rX2_sign : Room := { frames := 4, cells := 0, slots := 0, locals := 91 }
theorem cdX2_sign : yX2_sign.cls = RX2 ∧ yX2_sign.cls ≠ "java/lang/invoke/MethodHandle" ∧ yX2_sign.cls ≠ "java/lang/invoke/VarHandle" ∧ (parseMethodDescriptor yX2_sign.desc).map (fun d => d.parameters.length) = some 0 := by decide +kernel
set_option maxHeartbeats 4000000 in
set_option maxRecDepth 100000 in
theorem mvX2_sign (l : Launch) {D : va_G} {cA : Nat → ClassId} {A : Nat → Prop} (a0 : Nat) (V : VS) (Post : VS → Prop) (h : vX2_sign cA a0 V Post) : Met l yX2_sign (ws_ yX2_sign cX2_sign 2 none) rX2_sign (vPc [.ref a0] D cA A V) (va_Qv Post (vB D A) A) 0 0 A := by
  refine vstM (own := RX2) (by decide) rfl (Nat.le_of_ble_eq_true rfl) ?_
  intro p e s m args below meth c ls X hret hV hS hl
  obtain ⟨S, hK, hG, hA, hnm, hlocks⟩ := X
  have hx := S.1
  have hb := S.2.1
  have hl : lv_has ls 2 [(0, .ref a0)] := hl
  obtain ⟨tn, adK, hn1, hn2, hn3⟩ := hG.2.2.2.2.1
  obtain ⟨sgA, hg1, hg2⟩ := hG.2.2.2.2.2
  have C110 : ∀ (V : VS) (H : Heap) (locs : List Loc) (ls : Array Slot), HV D A V H → va_S A s.heap H locs → lv_has ls 2 [(0, .ref a0)] → vX2_sign_c110 cA a0 Post V → W p l e rX2_sign s m args below meth c H locs 0 0 (MQ below (va_Qv Post (vB D A) A) args s 0 0 A) (F0 m 110 ls []) := by
    intro V H locs ls hV hS hl h
    unfold vX2_sign_c110 at h
    refine lv_aload_n hx hb dX2_sign_110 rfl (lv_at hl 0 rfl) ?_
    obtain ⟨g_18, e_19, h⟩ := bO_e h
    refine vg_i S hK hV fX2_43 e_19 dX2_sign_111 ?_
    refine lv_sipush hx hb dX2_sign_114 ks_256 ?_
    refine lv_icmp_lt (tgt := 130) hx hb dX2_sign_117 (by decide) (fun c_20 => ?_) (fun c_20 => ?_)
    · replace h := h.1 c_20
      exact ve_v S hlocks hret hV hS h (Nat.le_refl _) (Nat.le_refl _) dX2_sign_130
    · replace h := h.2 c_20
      refine lv_aload_n hx hb dX2_sign_120 rfl (lv_at hl 0 rfl) ?_
      refine lv_dup hx hb dX2_sign_121 rfl ?_
      obtain ⟨g_21, e_22, h⟩ := bO_e h
      refine vg_i S hK hV fX2_15 e_22 dX2_sign_122 ?_
      refine lv_iconst hx hb dX2_sign_125 kc_1 ?_
      refine lv_iadd hx hb dX2_sign_126 ?_
      obtain ⟨V_23, e_24, h⟩ := bO_e h
      refine vp_v (v := .int (g_21 + (1 : Int32))) S hK hV hS fX2_15 (Or.inl rfl) rfl rfl e_24 dX2_sign_127 (fun H locs hV hS => ?_)
      exact ve_v S hlocks hret hV hS h (Nat.le_refl _) (Nat.le_refl _) dX2_sign_130
  have C88 : ∀ (x1 : Int32) (V : VS) (H : Heap) (locs : List Loc) (ls : Array Slot), HV D A V H → va_S A s.heap H locs → lv_has ls 2 [(0, .ref a0), (1, .int x1)] → vX2_sign_c88 cA a0 Post x1 V → W p l e rX2_sign s m args below meth c H locs 0 0 (MQ below (va_Qv Post (vB D A) A) args s 0 0 A) (F0 m 88 ls []) := by
    intro x1 V H locs ls hV hS hl h
    unfold vX2_sign_c88 at h
    refine lv_iload_n hx hb dX2_sign_88 rfl (lv_at hl 1 rfl) ?_
    refine lv_bipush hx hb dX2_sign_89 kb_62 ?_
    refine lv_icmp_ne (tgt := 110) hx hb dX2_sign_91 (by decide) (fun c_17 => ?_) (fun c_17 => ?_)
    · replace h := h.2 c_17
      exact C110 _ _ _ _ hV hS (lv_sub hl [0] rfl) h
    · replace h := h.1 c_17
      refine lv_aload_n hx hb dX2_sign_94 rfl (lv_at hl 0 rfl) ?_
      obtain ⟨o_27, e_28, h⟩ := bO_e h
      refine vk_i (vr_V (As := []) (rest := []) S hK hG hA hV hS e_28 rfl (mvX2_here l a0 V _ h) (cwV 0 S.2.2.2.2 (lw_V q380 q382 qs2 q140 q383) rfl rfl rfl cdX2_here ⟨Nat.le_of_ble_eq_true rfl, Nat.le_of_ble_eq_true rfl⟩) rfl hl.1 (Nat.le_of_ble_eq_true rfl) dX2_sign_95 ⟨Nat.le_refl _, Nat.le_refl _⟩) hS (fun r_25 V_26 H locs h hV hS => ?_)
      refine lv_bipush hx hb dX2_sign_98 kb_61 ?_
      refine lv_icmp_ne (tgt := 110) hx hb dX2_sign_100 (by decide) (fun c_29 => ?_) (fun c_29 => ?_)
      · replace h := h.2 c_29
        exact C110 _ _ _ _ hV hS (lv_sub hl [0] rfl) h
      · replace h := h.1 c_29
        refine lv_aload_n hx hb dX2_sign_103 rfl (lv_at hl 0 rfl) ?_
        refine lv_sipush hx hb dX2_sign_104 ks_257 ?_
        obtain ⟨V_30, e_31, h⟩ := bO_e h
        refine vp_v (v := .int (257 : Int32)) S hK hV hS fX2_43 (Or.inl rfl) rfl rfl e_31 dX2_sign_107 (fun H locs hV hS => ?_)
        exact C110 _ _ _ _ hV hS (lv_sub hl [0] rfl) h
  have C63 : ∀ (x1 : Int32) (V : VS) (H : Heap) (locs : List Loc) (ls : Array Slot), HV D A V H → va_S A s.heap H locs → lv_has ls 2 [(0, .ref a0), (1, .int x1)] → vX2_sign_c63 cA a0 Post x1 V → W p l e rX2_sign s m args below meth c H locs 0 0 (MQ below (va_Qv Post (vB D A) A) args s 0 0 A) (F0 m 63 ls []) := by
    intro x1 V H locs ls hV hS hl h
    unfold vX2_sign_c63 at h
    refine lv_iload_n hx hb dX2_sign_63 rfl (lv_at hl 1 rfl) ?_
    refine lv_bipush hx hb dX2_sign_64 kb_60 ?_
    refine lv_icmp_ne (tgt := 88) hx hb dX2_sign_66 (by decide) (fun c_16 => ?_) (fun c_16 => ?_)
    · replace h := h.2 c_16
      exact C88 _ _ _ _ _ hV hS (lv_sub hl [0, 1] rfl) h
    · replace h := h.1 c_16
      refine lv_aload_n hx hb dX2_sign_69 rfl (lv_at hl 0 rfl) ?_
      obtain ⟨o_34, e_35, h⟩ := bO_e h
      refine vk_i (vr_V (As := []) (rest := []) S hK hG hA hV hS e_35 rfl (mvX2_here l a0 V _ h) (cwV 0 S.2.2.2.2 (lw_V q380 q382 qs2 q140 q383) rfl rfl rfl cdX2_here ⟨Nat.le_of_ble_eq_true rfl, Nat.le_of_ble_eq_true rfl⟩) rfl hl.1 (Nat.le_of_ble_eq_true rfl) dX2_sign_70 ⟨Nat.le_refl _, Nat.le_refl _⟩) hS (fun r_32 V_33 H locs h hV hS => ?_)
      refine lv_bipush hx hb dX2_sign_73 kb_62 ?_
      refine lv_icmp_ne (tgt := 88) hx hb dX2_sign_75 (by decide) (fun c_36 => ?_) (fun c_36 => ?_)
      · replace h := h.2 c_36
        exact C88 _ _ _ _ _ hV hS (lv_sub hl [0, 1] rfl) h
      · replace h := h.1 c_36
        refine lv_aload_n hx hb dX2_sign_78 rfl (lv_at hl 0 rfl) ?_
        refine lv_sipush hx hb dX2_sign_79 ks_258 ?_
        obtain ⟨V_37, e_38, h⟩ := bO_e h
        refine vp_v (v := .int (258 : Int32)) S hK hV hS fX2_43 (Or.inl rfl) rfl rfl e_38 dX2_sign_82 (fun H locs hV hS => ?_)
        refine lv_goto (tgt := 110) hx hb dX2_sign_85 (by decide) ?_
        exact C110 _ _ _ _ hV hS (lv_sub hl [0] rfl) h
  have C30 : ∀ (x1 : Int32) (t0 : Int32) (V : VS) (H : Heap) (locs : List Loc) (ls : Array Slot), HV D A V H → va_S A s.heap H locs → lv_has ls 2 [(0, .ref a0), (1, .int x1)] → vX2_sign_c30 cA a0 Post x1 t0 V → W p l e rX2_sign s m args below meth c H locs 0 0 (MQ below (va_Qv Post (vB D A) A) args s 0 0 A) (F0 m 30 ls [.int t0, .ref a0]) := by
    intro x1 t0 V H locs ls hV hS hl h
    unfold vX2_sign_c30 at h
    obtain ⟨V_11, e_12, h⟩ := bO_e h
    refine vp_v (v := .int t0) S hK hV hS fX2_33 (Or.inl rfl) rfl rfl e_12 dX2_sign_30 (fun H locs hV hS => ?_)
    refine lv_aload_n hx hb dX2_sign_33 rfl (lv_at hl 0 rfl) ?_
    refine lv_iload_n hx hb dX2_sign_34 rfl (lv_at hl 1 rfl) ?_
    obtain ⟨V_13, e_14, h⟩ := bO_e h
    refine vp_v (v := .int x1) S hK hV hS fX2_43 (Or.inl rfl) rfl rfl e_14 dX2_sign_35 (fun H locs hV hS => ?_)
    refine lv_iload_n hx hb dX2_sign_38 rfl (lv_at hl 1 rfl) ?_
    refine lv_bipush hx hb dX2_sign_39 kb_60 ?_
    refine lv_icmp_ne (tgt := 63) hx hb dX2_sign_41 (by decide) (fun c_15 => ?_) (fun c_15 => ?_)
    · replace h := h.2 c_15
      exact C63 _ _ _ _ _ hV hS (lv_sub hl [0, 1] rfl) h
    · replace h := h.1 c_15
      refine lv_aload_n hx hb dX2_sign_44 rfl (lv_at hl 0 rfl) ?_
      obtain ⟨o_41, e_42, h⟩ := bO_e h
      refine vk_i (vr_V (As := []) (rest := []) S hK hG hA hV hS e_42 rfl (mvX2_here l a0 V_13 _ h) (cwV 0 S.2.2.2.2 (lw_V q380 q382 qs2 q140 q383) rfl rfl rfl cdX2_here ⟨Nat.le_of_ble_eq_true rfl, Nat.le_of_ble_eq_true rfl⟩) rfl hl.1 (Nat.le_of_ble_eq_true rfl) dX2_sign_45 ⟨Nat.le_refl _, Nat.le_refl _⟩) hS (fun r_39 V_40 H locs h hV hS => ?_)
      refine lv_bipush hx hb dX2_sign_48 kb_61 ?_
      refine lv_icmp_ne (tgt := 63) hx hb dX2_sign_50 (by decide) (fun c_43 => ?_) (fun c_43 => ?_)
      · replace h := h.2 c_43
        exact C63 _ _ _ _ _ hV hS (lv_sub hl [0, 1] rfl) h
      · replace h := h.1 c_43
        refine lv_aload_n hx hb dX2_sign_53 rfl (lv_at hl 0 rfl) ?_
        refine lv_sipush hx hb dX2_sign_54 ks_256 ?_
        obtain ⟨V_44, e_45, h⟩ := bO_e h
        refine vp_v (v := .int (256 : Int32)) S hK hV hS fX2_43 (Or.inl rfl) rfl rfl e_45 dX2_sign_57 (fun H locs hV hS => ?_)
        refine lv_goto (tgt := 110) hx hb dX2_sign_60 (by decide) ?_
        exact C110 _ _ _ _ hV hS (lv_sub hl [0] rfl) h
  unfold vX2_sign at h
  refine lv_aload_n hx hb dX2_sign_0 rfl (lv_at hl 0 rfl) ?_
  obtain ⟨o_3, e_4, h⟩ := bO_e h
  refine vk_i (vr_V (As := []) (rest := []) S hK hG hA hV hS e_4 rfl (mvX2_here l a0 V _ h) (cwV 0 S.2.2.2.2 (lw_V q380 q382 qs2 q140 q383) rfl rfl rfl cdX2_here ⟨Nat.le_of_ble_eq_true rfl, Nat.le_of_ble_eq_true rfl⟩) rfl hl.1 (Nat.le_of_ble_eq_true rfl) dX2_sign_1 ⟨Nat.le_refl _, Nat.le_refl _⟩) hS (fun r_1 V_2 H locs h hV hS => ?_)
  refine lv_istore_n (lv' := [(1, .int r_1), (0, .ref a0)]) hx hb dX2_sign_4 rfl hl (by decide) rfl (fun ls hl => ?_)
  refine lv_aload_n hx hb dX2_sign_5 rfl (lv_at hl 1 rfl) ?_
  refine lv_dup hx hb dX2_sign_6 rfl ?_
  obtain ⟨g_5, e_6, h⟩ := bO_e h
  refine vg_i S hK hV fX2_15 e_6 dX2_sign_7 ?_
  refine lv_iconst hx hb dX2_sign_10 kc_1 ?_
  refine lv_iadd hx hb dX2_sign_11 ?_
  obtain ⟨V_7, e_8, h⟩ := bO_e h
  refine vp_v (v := .int (g_5 + (1 : Int32))) S hK hV hS fX2_15 (Or.inl rfl) rfl rfl e_8 dX2_sign_12 (fun H locs hV hS => ?_)
  refine lv_aload_n hx hb dX2_sign_15 rfl (lv_at hl 1 rfl) ?_
  refine va_ldcS hx hb S.2.2.2.1 hg1 dX2_sign_16 ?_
  refine lv_iload_n hx hb dX2_sign_18 rfl (lv_at hl 0 rfl) ?_
  refine kc_i (As := [.int r_1]) (rest := [.ref a0]) S hG.2.2.2.1 hg2 hS (mtJ3_indexOf l (A := A) sgA 10 sgB r_1 _ h) (cwV 1 S.2.2.2.2 (lw_V q448 q449 q450 q146 q451) rfl rfl rfl cdJ3_indexOf ⟨Nat.le_of_ble_eq_true rfl, Nat.le_of_ble_eq_true rfl⟩) rfl rfl hl.1 (Nat.le_of_ble_eq_true rfl) dX2_sign_19 ⟨Nat.le_refl _, Nat.le_refl _⟩ (fun r_9 h => ?_)
  refine lv_if_lt (tgt := 29) hx hb dX2_sign_22 (by decide) (fun c_10 => ?_) (fun c_10 => ?_)
  · replace h := h.1 c_10
    refine lv_iconst hx hb dX2_sign_29 kc_5 ?_
    exact C30 _ _ _ _ _ _ hV hS (lv_sub hl [1, 0] rfl) h
  · replace h := h.2 c_10
    refine lv_iconst hx hb dX2_sign_25 kc_3 ?_
    refine lv_goto (tgt := 30) hx hb dX2_sign_26 (by decide) ?_
    exact C30 _ _ _ _ _ _ hV hS (lv_sub hl [1, 0] rfl) h
