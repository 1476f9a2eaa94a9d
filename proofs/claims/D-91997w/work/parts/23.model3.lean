def w4_sumOf_l12 (a1 : Int32) (Post : Int64 → MS → Prop) : Nat → Int32 → MS → Prop
  | 0, _, _ => False
  | n + 1, x2, M => (vp_in a1 (mN 40) ∧ ((ma M 40 (Int32.toNatClampNeg a1)) ≤ x2 → ((vp_in a1 (mN 40) ∧ (vp_in ((ma M 40 (Int32.toNatClampNeg a1)) - (1 : Int32)) (mN 63) ∧ Post (mb M 63 (Int32.toNatClampNeg ((ma M 40 (Int32.toNatClampNeg a1)) - (1 : Int32)))) M)))) ∧ (¬ ((ma M 40 (Int32.toNatClampNeg a1)) ≤ x2) → (w4_worthOf x2 M (fun r_5 M_4 => (vp_in x2 (mN 63) ∧ ∀ M_6 : MS, M_6 = sb M_4 63 (Int32.toNatClampNeg x2) r_5 → ∀ v_7 : Int32, v_7 = x2 + (1 : Int32) → w4_sumOf_l12 a1 Post n v_7 M_6)))))
def w4_sumOf (a1 : Int32) (M : MS) (Post : Int64 → MS → Prop) : Prop := ∀ M_1 : MS, M_1 = si M 64 (0 : Int32) → (vp_in a1 (mN 39) ∧ ∀ v_2 : Int32, v_2 = ma M_1 39 (Int32.toNatClampNeg a1) → ∃ f, w4_sumOf_l12 a1 Post f v_2 M_1)
abbrev rX4_sumOf : Room := { frames := 2, cells := 0, slots := 0, locals := 50 }
theorem cdX4_sumOf : yX4_sumOf.cls = RX4 ∧ yX4_sumOf.cls ≠ "java/lang/invoke/MethodHandle" ∧ yX4_sumOf.cls ≠ "java/lang/invoke/VarHandle" ∧ (parseMethodDescriptor yX4_sumOf.desc).map (fun d => d.parameters.length) = some 1 := by decide +kernel
set_option maxHeartbeats 4000000 in
set_option maxRecDepth 100000 in
theorem mt4_sumOf (l : Launch) {D : va_G} {cA : Nat → ClassId} {m0 : Nat} {ad : Nat → Nat} (hA : mAd m0 ad) (a1 : Int32) (M : MS) (Post : Int64 → MS → Prop) (h : w4_sumOf a1 M Post) : Met l yX4_sumOf (ws_ yX4_sumOf cX4_sumOf 3 (some .long)) rX4_sumOf (mPc [.ref m0, .int a1] D cA m0 ad M) (va_Ql Post (mB D cA m0 ad) (mF m0 ad)) 0 0 (mF m0 ad) := by
  refine mst_l (own := RX4) (by decide) rfl (Nat.le_of_ble_eq_true rfl) ?_
  intro p e s m args below meth c Q ls S hK hP hS hl hret
  have hx := S.1
  have hb := S.2.1
  have hl : lv_has ls 3 [(0, .ref m0), (1, .int a1)] := hl
  have L12 : ∀ (n : Nat) (x2 : Int32) (M : MS) (H : Heap) (locs : List Loc) (ls : Array Slot), va_P D vwCl (mo cA m0 ad M) H → va_S (mF m0 ad) s.heap H locs → lv_has ls 3 [(0, .ref m0), (1, .int a1), (2, .int x2)] → w4_sumOf_l12 a1 Post n x2 M → W p l e rX4_sumOf s m args below meth c H locs 0 0 Q (F0 m 12 ls []) := by
    intro n
    induction n with
    | zero => intro x2 M H locs ls hP hS hl h; rw [w4_sumOf_l12] at h; exact h.elim
    | succ n ih =>
      intro x2 M H locs ls hP hS hl h
      rw [w4_sumOf_l12] at h
      refine lv_iload_n hx hb dX4_sumOf_12 rfl (lv_at hl 2 rfl) ?_
      refine lv_aload_n hx hb dX4_sumOf_13 rfl (lv_at hl 0 rfl) ?_
      refine mg_r S hK hP (k := 40) (by decide) (by decide) q1460 dX4_sumOf_14 ?_
      refine lv_iload_n hx hb dX4_sumOf_17 rfl (lv_at hl 1 rfl) ?_
      obtain ⟨hi, h⟩ := h
      refine ml_a S hK hP (k := 40) af_40 rfl hi dX4_sumOf_18 ?_
      refine lv_icmp_ge (tgt := 39) hx hb dX4_sumOf_19 (by decide) (fun c_3 => ?_) (fun c_3 => ?_)
      · replace h := h.1 c_3
        refine lv_aload_n hx hb dX4_sumOf_39 rfl (lv_at hl 0 rfl) ?_
        refine mg_r S hK hP (k := 63) (by decide) (by decide) q1483 dX4_sumOf_40 ?_
        refine lv_aload_n hx hb dX4_sumOf_43 rfl (lv_at hl 0 rfl) ?_
        refine mg_r S hK hP (k := 40) (by decide) (by decide) q1460 dX4_sumOf_44 ?_
        refine lv_iload_n hx hb dX4_sumOf_47 rfl (lv_at hl 1 rfl) ?_
        obtain ⟨hi, h⟩ := h
        refine ml_a S hK hP (k := 40) af_40 rfl hi dX4_sumOf_48 ?_
        refine lv_iconst hx hb dX4_sumOf_49 kc_1 ?_
        refine lv_isub hx hb dX4_sumOf_50 ?_
        obtain ⟨hi, h⟩ := h
        refine ml_b S hK hP (k := 63) af_63 rfl hi dX4_sumOf_51 ?_
        exact hret _ _ _ _ _ _ hP hS h dX4_sumOf_52
      · replace h := h.2 c_3
        refine lv_aload_n hx hb dX4_sumOf_22 rfl (lv_at hl 0 rfl) ?_
        refine mg_r S hK hP (k := 63) (by decide) (by decide) q1483 dX4_sumOf_23 ?_
        refine lv_iload_n hx hb dX4_sumOf_26 rfl (lv_at hl 2 rfl) ?_
        refine lv_aload_n hx hb dX4_sumOf_27 rfl (lv_at hl 0 rfl) ?_
        refine lv_iload_n hx hb dX4_sumOf_28 rfl (lv_at hl 2 rfl) ?_
        refine mc_l S hK hP hS (As := [.int x2]) (rest := [.int x2, .ref (ad 63)]) (mt4_worthOf l hA x2 M _ h) (cwV 1 S.2.2.2.2 (lw_V q1980 q1982 qs124 q145 q1983) rfl rfl rfl cdX4_worthOf ⟨Nat.le_of_ble_eq_true rfl, Nat.le_of_ble_eq_true rfl⟩) rfl rfl hl.1 (Nat.le_of_ble_eq_true rfl) dX4_sumOf_29 ⟨Nat.le_refl _, Nat.le_refl _⟩ (fun r_5 M_4 H locs h hP hS => ?_)
        obtain ⟨hi, h⟩ := h
        refine ms_b S hK hA hP hS (k := 63) af_63 rfl hi dX4_sumOf_32 (fun M_6 H locs e_M_6 hP hS => ?_)
        replace h := h M_6 e_M_6
        obtain ⟨v_7, e_v_7⟩ : ∃ y : Int32, y = x2 + (1 : Int32) := ⟨_, rfl⟩
        replace h := h v_7 e_v_7
        refine lv_iinc (v := v_7) (lv' := [(2, .int v_7), (0, .ref m0), (1, .int a1)]) hx hb dX4_sumOf_33 hl (k := 2) rfl (by rw [kc_1, e_v_7]) (by decide) rfl (fun ls hl => ?_)
        refine lv_goto (tgt := 12) hx hb dX4_sumOf_36 (by decide) ?_
        exact ih _ _ _ _ _ hP hS (lv_sub hl [1, 2, 0] rfl) h
  unfold w4_sumOf at h
  refine lv_aload_n hx hb dX4_sumOf_0 rfl (lv_at hl 0 rfl) ?_
  refine lv_iconst hx hb dX4_sumOf_1 kc_0 ?_
  refine mp_i S hK hA hP hS (k := 64) (by decide) (Or.inr ⟨rfl, vz_0⟩) rfl (Or.inr ⟨rfl, rfl⟩) q1484 dX4_sumOf_2 (fun M_1 H locs e_M_1 hP hS => ?_)
  replace h := h M_1 e_M_1
  refine lv_aload_n hx hb dX4_sumOf_5 rfl (lv_at hl 0 rfl) ?_
  refine mg_r S hK hP (k := 39) (by decide) (by decide) q1459 dX4_sumOf_6 ?_
  refine lv_iload_n hx hb dX4_sumOf_9 rfl (lv_at hl 1 rfl) ?_
  obtain ⟨hi, h⟩ := h
  refine ml_a S hK hP (k := 39) af_39 rfl hi dX4_sumOf_10 ?_
  refine lv_topi (fun v_2 e_v_2 => ?_)
  replace h := h v_2 e_v_2
  refine lv_istore_n (lv' := [(2, .int v_2), (0, .ref m0), (1, .int a1)]) hx hb dX4_sumOf_11 rfl hl (by decide) rfl (fun ls hl => ?_)
  obtain ⟨f, h⟩ := h
  exact L12 f _ _ _ _ _ hP hS (lv_sub hl [1, 2, 0] rfl) h
def w4_lawAt_c113 (a1 : Int32) (k63 : Int32 → Int32 → MS → Prop) (Post : Int32 → MS → Prop) (x2 : Int32) (x3 : Int32) (M : MS) : Prop := ∀ v_22 : Int32, v_22 = x3 + (1 : Int32) → k63 x2 v_22 M
def w4_lawAt_c111 (a1 : Int32) (k63 : Int32 → Int32 → MS → Prop) (Post : Int32 → MS → Prop) (x2 : Int32) (x3 : Int32) (t0 : Int64) (t1 : Int64) (t2 : Int32) (M : MS) : Prop := (vp_in t2 (mN 62) ∧ ∀ M_21 : MS, M_21 = sb M 62 (Int32.toNatClampNeg t2) (t1 + t0) → w4_lawAt_c113 a1 k63 Post x2 x3 M_21)
def w4_lawAt_l63 (a1 : Int32) (Post : Int32 → MS → Prop) : Nat → Int32 → Int32 → MS → Prop
  | 0, _, _, _ => False
  | n + 1, x2, x3, M => (a1 ≤ x3 → (w4_sumOf (0 : Int32) M (fun r_12 M_11 => ((mi M_11 64) = 0 → (((0 : Int64) ≤ r_12 → ((r_12 ≤ (100 : Int64) → (Post r_12.toInt32 M_11)) ∧ (¬ (r_12 ≤ (100 : Int64)) → (Post (100 : Int32) M_11)))) ∧ (¬ ((0 : Int64) ≤ r_12) → (Post (0 : Int32) M_11)))) ∧ (¬ ((mi M_11 64) = 0) → (Post (50 : Int32) M_11))))) ∧ (¬ (a1 ≤ x3) → (w4_asks x3 x2 M (fun r_17 M_16 => (r_17 = 0 → (w4_lawAt_c113 a1 (w4_lawAt_l63 a1 Post n) Post x2 x3 M_16)) ∧ (¬ (r_17 = 0) → ((vp_in (3 : Int32) (mN 62) ∧ (vp_in (3 : Int32) (mN 62) ∧ ∀ M_19 : MS, M_19 = sb M_16 62 (Int32.toNatClampNeg (3 : Int32)) ((mb M_16 62 (Int32.toNatClampNeg (3 : Int32))) + (1 : Int64)) → (vp_in (4 : Int32) (mN 62) ∧ (vp_in x3 (mN 35) ∧ ((ma M_19 35 (Int32.toNatClampNeg x3)) < 0 → (w4_lawAt_c111 a1 (w4_lawAt_l63 a1 Post n) Post x2 x3 (0 : Int64) (mb M_19 62 (Int32.toNatClampNeg (4 : Int32))) (4 : Int32) M_19)) ∧ (¬ ((ma M_19 35 (Int32.toNatClampNeg x3)) < 0) → (w4_lawAt_c111 a1 (w4_lawAt_l63 a1 Post n) Post x2 x3 (1 : Int64) (mb M_19 62 (Int32.toNatClampNeg (4 : Int32))) (4 : Int32) M_19)))))))))))
def w4_lawAt (a1 : Int32) (M : MS) (Post : Int32 → MS → Prop) : Prop := w4_hasLine (0 : Int32) M (fun r_2 M_1 => (r_2 = 0 → (Post (50 : Int32) M_1)) ∧ (¬ (r_2 = 0) → ((vp_in a1 (mN 32) ∧ ∀ v_4 : Int32, v_4 = ma M_1 32 (Int32.toNatClampNeg a1) → w4_noNames v_4 M_1 (fun M_5 => (vp_in a1 (mN 33) ∧ (vp_in v_4 (mN 28) ∧ (vp_in (1 : Int32) (mN 62) ∧ ∀ M_6 : MS, M_6 = sb M_5 62 (Int32.toNatClampNeg (1 : Int32)) (((ma M_5 33 (Int32.toNatClampNeg a1)) - (ma M_5 28 (Int32.toNatClampNeg v_4))).toInt64) → (vp_in a1 (mN 33) ∧ w4_offUpTo v_4 (ma M_6 33 (Int32.toNatClampNeg a1)) M_6 (fun r_8 M_7 => (vp_in (2 : Int32) (mN 62) ∧ ∀ M_9 : MS, M_9 = sb M_7 62 (Int32.toNatClampNeg (2 : Int32)) r_8.toInt64 → ∃ f, w4_lawAt_l63 a1 Post f v_4 (0 : Int32) M_9)))))))))))
abbrev rX4_lawAt : Room := { frames := 3, cells := 0, slots := 0, locals := 72 }
theorem cdX4_lawAt : yX4_lawAt.cls = RX4 ∧ yX4_lawAt.cls ≠ "java/lang/invoke/MethodHandle" ∧ yX4_lawAt.cls ≠ "java/lang/invoke/VarHandle" ∧ (parseMethodDescriptor yX4_lawAt.desc).map (fun d => d.parameters.length) = some 1 := by decide +kernel
set_option maxHeartbeats 4000000 in
set_option maxRecDepth 100000 in
theorem mt4_lawAt (l : Launch) {D : va_G} {cA : Nat → ClassId} {m0 : Nat} {ad : Nat → Nat} (hA : mAd m0 ad) (a1 : Int32) (M : MS) (Post : Int32 → MS → Prop) (h : w4_lawAt a1 M Post) : Met l yX4_lawAt (ws_ yX4_lawAt cX4_lawAt 5 (some .int)) rX4_lawAt (mPc [.ref m0, .int a1] D cA m0 ad M) (va_Qi Post (mB D cA m0 ad) (mF m0 ad)) 0 0 (mF m0 ad) := by
  refine mst_i (own := RX4) (by decide) rfl (Nat.le_of_ble_eq_true rfl) ?_
  intro p e s m args below meth c Q ls S hK hP hS hl hret
  have hx := S.1
  have hb := S.2.1
  have hl : lv_has ls 5 [(0, .ref m0), (1, .int a1)] := hl
  have C113 : ∀ (k63 : Int32 → Int32 → MS → Prop) (K63 : (∀ (x2 : Int32) (x3 : Int32) (M : MS) (H : Heap) (locs : List Loc) (ls : Array Slot), va_P D vwCl (mo cA m0 ad M) H → va_S (mF m0 ad) s.heap H locs → lv_has ls 5 [(0, .ref m0), (1, .int a1), (2, .int x2), (3, .int x3)] → k63 x2 x3 M → W p l e rX4_lawAt s m args below meth c H locs 0 0 Q (F0 m 63 ls []))), ∀ (x2 : Int32) (x3 : Int32) (M : MS) (H : Heap) (locs : List Loc) (ls : Array Slot), va_P D vwCl (mo cA m0 ad M) H → va_S (mF m0 ad) s.heap H locs → lv_has ls 5 [(0, .ref m0), (1, .int a1), (2, .int x2), (3, .int x3)] → w4_lawAt_c113 a1 k63 Post x2 x3 M → W p l e rX4_lawAt s m args below meth c H locs 0 0 Q (F0 m 113 ls []) := by
    intro k63 K63
    intro x2 x3 M H locs ls hP hS hl h
    unfold w4_lawAt_c113 at h
    obtain ⟨v_22, e_v_22⟩ : ∃ y : Int32, y = x3 + (1 : Int32) := ⟨_, rfl⟩
    replace h := h v_22 e_v_22
    refine lv_iinc (v := v_22) (lv' := [(3, .int v_22), (0, .ref m0), (1, .int a1), (2, .int x2)]) hx hb dX4_lawAt_113 hl (k := 3) rfl (by rw [kc_1, e_v_22]) (by decide) rfl (fun ls hl => ?_)
    refine lv_goto (tgt := 63) hx hb dX4_lawAt_116 (by decide) ?_
    exact K63 _ _ _ _ _ _ hP hS (lv_sub hl [1, 2, 3, 0] rfl) h
  have C111 : ∀ (k63 : Int32 → Int32 → MS → Prop) (K63 : (∀ (x2 : Int32) (x3 : Int32) (M : MS) (H : Heap) (locs : List Loc) (ls : Array Slot), va_P D vwCl (mo cA m0 ad M) H → va_S (mF m0 ad) s.heap H locs → lv_has ls 5 [(0, .ref m0), (1, .int a1), (2, .int x2), (3, .int x3)] → k63 x2 x3 M → W p l e rX4_lawAt s m args below meth c H locs 0 0 Q (F0 m 63 ls []))), ∀ (x2 : Int32) (x3 : Int32) (t0 : Int64) (t1 : Int64) (t2 : Int32) (M : MS) (H : Heap) (locs : List Loc) (ls : Array Slot), va_P D vwCl (mo cA m0 ad M) H → va_S (mF m0 ad) s.heap H locs → lv_has ls 5 [(0, .ref m0), (1, .int a1), (2, .int x2), (3, .int x3)] → w4_lawAt_c111 a1 k63 Post x2 x3 t0 t1 t2 M → W p l e rX4_lawAt s m args below meth c H locs 0 0 Q (F0 m 111 ls [.long t0, .long t1, .int t2, .ref (ad 62)]) := by
    intro k63 K63
    intro x2 x3 t0 t1 t2 M H locs ls hP hS hl h
    unfold w4_lawAt_c111 at h
    refine lv_ladd hx hb dX4_lawAt_111 ?_
    obtain ⟨hi, h⟩ := h
    refine ms_b S hK hA hP hS (k := 62) af_62 rfl hi dX4_lawAt_112 (fun M_21 H locs e_M_21 hP hS => ?_)
    replace h := h M_21 e_M_21
    exact C113 _ K63 _ _ _ _ _ _ hP hS (lv_sub hl [0, 1, 2, 3] rfl) h
  have L63 : ∀ (n : Nat) (x2 : Int32) (x3 : Int32) (M : MS) (H : Heap) (locs : List Loc) (ls : Array Slot), va_P D vwCl (mo cA m0 ad M) H → va_S (mF m0 ad) s.heap H locs → lv_has ls 5 [(0, .ref m0), (1, .int a1), (2, .int x2), (3, .int x3)] → w4_lawAt_l63 a1 Post n x2 x3 M → W p l e rX4_lawAt s m args below meth c H locs 0 0 Q (F0 m 63 ls []) := by
    intro n
    induction n with
    | zero => intro x2 x3 M H locs ls hP hS hl h; rw [w4_lawAt_l63] at h; exact h.elim
    | succ n ih =>
      intro x2 x3 M H locs ls hP hS hl h
      rw [w4_lawAt_l63] at h
      refine lv_iload_n hx hb dX4_lawAt_63 rfl (lv_at hl 3 rfl) ?_
      refine lv_iload_n hx hb dX4_lawAt_64 rfl (lv_at hl 1 rfl) ?_
      refine lv_icmp_ge (tgt := 119) hx hb dX4_lawAt_65 (by decide) (fun c_10 => ?_) (fun c_10 => ?_)
      · replace h := h.1 c_10
        refine lv_aload_n hx hb dX4_lawAt_119 rfl (lv_at hl 0 rfl) ?_
        refine lv_iconst hx hb dX4_lawAt_120 kc_0 ?_
        refine mc_l S hK hP hS (As := [.int (0 : Int32)]) (rest := []) (mt4_sumOf l hA (0 : Int32) M _ h) (cwV 1 S.2.2.2.2 (lw_V q1976 q1978 qs123 q145 q1979) rfl rfl rfl cdX4_sumOf ⟨Nat.le_of_ble_eq_true rfl, Nat.le_of_ble_eq_true rfl⟩) rfl rfl hl.1 (Nat.le_of_ble_eq_true rfl) dX4_lawAt_121 ⟨Nat.le_refl _, Nat.le_refl _⟩ (fun r_12 M_11 H locs h hP hS => ?_)
        refine lv_lstore_n (lv' := [(3, .long r_12), (0, .ref m0), (1, .int a1), (2, .int x2)]) hx hb dX4_lawAt_124 rfl hl (by decide) rfl (fun ls hl => ?_)
        refine lv_aload_n hx hb dX4_lawAt_125 rfl (lv_at hl 1 rfl) ?_
        refine mg_i S hK hP (k := 64) (by decide) (by decide) q1484 dX4_lawAt_126 ?_
        refine lv_if_eq (tgt := 137) hx hb dX4_lawAt_129 (by decide) (fun c_13 => ?_) (fun c_13 => ?_)
        · replace h := h.1 c_13
          refine lv_lload_n hx hb dX4_lawAt_137 rfl (lv_at hl 0 rfl) ?_
          refine lv_lconst (v := 0) hx hb dX4_lawAt_138 rfl ?_
          refine W.lcmp hx hb dX4_lawAt_139 ?_
          refine lv_if_ge (tgt := 147) hx hb dX4_lawAt_140 (by decide) (fun c_14 => ?_) (fun c_14 => ?_)
          · replace h := h.1 ((lg_cmp_ge _ _).mp c_14)
            refine lv_lload_n hx hb dX4_lawAt_147 rfl (lv_at hl 0 rfl) ?_
            refine lv_ldc2 (own := RX4) (v := 100) hx hb S.2.2.2.1 (S.2.2.2.2 _ q1997) dX4_lawAt_148 ?_
            refine W.lcmp hx hb dX4_lawAt_151 ?_
            refine lv_if_le (tgt := 160) hx hb dX4_lawAt_152 (by decide) (fun c_15 => ?_) (fun c_15 => ?_)
            · replace h := h.1 ((lg_cmp_le _ _).mp c_15)
              refine lv_lload_n hx hb dX4_lawAt_160 rfl (lv_at hl 0 rfl) ?_
              refine lv_l2i hx hb dX4_lawAt_161 rfl ?_
              exact hret _ _ _ _ _ _ hP hS h rfl dX4_lawAt_162
            · replace h := h.2 (fun q => c_15 ((lg_cmp_le _ _).mpr q))
              refine lv_bipush hx hb dX4_lawAt_155 kb_100 ?_
              refine lv_goto (tgt := 162) hx hb dX4_lawAt_157 (by decide) ?_
              exact hret _ _ _ _ _ _ hP hS h rfl dX4_lawAt_162
          · replace h := h.2 (fun q => c_14 ((lg_cmp_ge _ _).mpr q))
            refine lv_iconst hx hb dX4_lawAt_143 kc_0 ?_
            refine lv_goto (tgt := 162) hx hb dX4_lawAt_144 (by decide) ?_
            exact hret _ _ _ _ _ _ hP hS h rfl dX4_lawAt_162
        · replace h := h.2 c_13
          refine lv_bipush hx hb dX4_lawAt_132 kb_50 ?_
          refine lv_goto (tgt := 162) hx hb dX4_lawAt_134 (by decide) ?_
          exact hret _ _ _ _ _ _ hP hS h rfl dX4_lawAt_162
      · replace h := h.2 c_10
        refine lv_aload_n hx hb dX4_lawAt_68 rfl (lv_at hl 0 rfl) ?_
        refine lv_iload_n hx hb dX4_lawAt_69 rfl (lv_at hl 3 rfl) ?_
        refine lv_iload_n hx hb dX4_lawAt_70 rfl (lv_at hl 2 rfl) ?_
        refine mc_i S hK hP hS (As := [.int x3, .int x2]) (rest := []) (mt4_asks l hA x3 x2 M _ h) (cwV 2 S.2.2.2.2 (lw_V q1833 q1835 qs104 q145 q1836) rfl rfl rfl cdX4_asks ⟨Nat.le_of_ble_eq_true rfl, Nat.le_of_ble_eq_true rfl⟩) rfl rfl hl.1 (Nat.le_of_ble_eq_true rfl) dX4_lawAt_71 ⟨Nat.le_refl _, Nat.le_refl _⟩ (fun r_17 M_16 H locs h hP hS => ?_)
        refine lv_if_ne (tgt := 80) hx hb dX4_lawAt_74 (by decide) (fun c_18 => ?_) (fun c_18 => ?_)
        · replace h := h.2 c_18
          refine lv_aload_n hx hb dX4_lawAt_80 rfl (lv_at hl 0 rfl) ?_
          refine mg_r S hK hP (k := 62) (by decide) (by decide) q1482 dX4_lawAt_81 ?_
          refine lv_iconst hx hb dX4_lawAt_84 kc_3 ?_
          refine lv_dup2_11 hx hb dX4_lawAt_85 rfl rfl ?_
          obtain ⟨hi, h⟩ := h
          refine ml_b S hK hP (k := 62) af_62 rfl hi dX4_lawAt_86 ?_
          refine lv_lconst (v := 1) hx hb dX4_lawAt_87 rfl ?_
          refine lv_ladd hx hb dX4_lawAt_88 ?_
          obtain ⟨hi, h⟩ := h
          refine ms_b S hK hA hP hS (k := 62) af_62 rfl hi dX4_lawAt_89 (fun M_19 H locs e_M_19 hP hS => ?_)
          replace h := h M_19 e_M_19
          refine lv_aload_n hx hb dX4_lawAt_90 rfl (lv_at hl 0 rfl) ?_
          refine mg_r S hK hP (k := 62) (by decide) (by decide) q1482 dX4_lawAt_91 ?_
          refine lv_iconst hx hb dX4_lawAt_94 kc_4 ?_
          refine lv_dup2_11 hx hb dX4_lawAt_95 rfl rfl ?_
          obtain ⟨hi, h⟩ := h
          refine ml_b S hK hP (k := 62) af_62 rfl hi dX4_lawAt_96 ?_
          refine lv_aload_n hx hb dX4_lawAt_97 rfl (lv_at hl 0 rfl) ?_
          refine mg_r S hK hP (k := 35) (by decide) (by decide) q1455 dX4_lawAt_98 ?_
          refine lv_iload_n hx hb dX4_lawAt_101 rfl (lv_at hl 3 rfl) ?_
          obtain ⟨hi, h⟩ := h
          refine ml_a S hK hP (k := 35) af_35 rfl hi dX4_lawAt_102 ?_
          refine lv_if_lt (tgt := 110) hx hb dX4_lawAt_103 (by decide) (fun c_20 => ?_) (fun c_20 => ?_)
          · replace h := h.1 c_20
            refine lv_lconst (v := 0) hx hb dX4_lawAt_110 rfl ?_
            exact C111 _ ih _ _ _ _ _ _ _ _ _ hP hS (lv_sub hl [0, 1, 2, 3] rfl) h
          · replace h := h.2 c_20
            refine lv_lconst (v := 1) hx hb dX4_lawAt_106 rfl ?_
            refine lv_goto (tgt := 111) hx hb dX4_lawAt_107 (by decide) ?_
            exact C111 _ ih _ _ _ _ _ _ _ _ _ hP hS (lv_sub hl [0, 1, 2, 3] rfl) h
        · replace h := h.1 c_18
          refine lv_goto (tgt := 113) hx hb dX4_lawAt_77 (by decide) ?_
          exact C113 _ ih _ _ _ _ _ _ hP hS (lv_sub hl [0, 1, 2, 3] rfl) h
  unfold w4_lawAt at h
  refine lv_aload_n hx hb dX4_lawAt_0 rfl (lv_at hl 0 rfl) ?_
  refine lv_iconst hx hb dX4_lawAt_1 kc_0 ?_
  refine mc_i S hK hP hS (As := [.int (0 : Int32)]) (rest := []) (mt4_hasLine l hA (0 : Int32) M _ h) (cwV 1 S.2.2.2.2 (lw_V q1964 q1966 qs120 q145 q1967) rfl rfl rfl cdX4_hasLine ⟨Nat.le_of_ble_eq_true rfl, Nat.le_of_ble_eq_true rfl⟩) rfl rfl hl.1 (Nat.le_of_ble_eq_true rfl) dX4_lawAt_2 ⟨Nat.le_refl _, Nat.le_refl _⟩ (fun r_2 M_1 H locs h hP hS => ?_)
  refine lv_if_ne (tgt := 11) hx hb dX4_lawAt_5 (by decide) (fun c_3 => ?_) (fun c_3 => ?_)
  · replace h := h.2 c_3
    refine lv_aload_n hx hb dX4_lawAt_11 rfl (lv_at hl 0 rfl) ?_
    refine mg_r S hK hP (k := 32) (by decide) (by decide) q1452 dX4_lawAt_12 ?_
    refine lv_iload_n hx hb dX4_lawAt_15 rfl (lv_at hl 1 rfl) ?_
    obtain ⟨hi, h⟩ := h
    refine ml_a S hK hP (k := 32) af_32 rfl hi dX4_lawAt_16 ?_
    refine lv_topi (fun v_4 e_v_4 => ?_)
    replace h := h v_4 e_v_4
    refine lv_istore_n (lv' := [(2, .int v_4), (0, .ref m0), (1, .int a1)]) hx hb dX4_lawAt_17 rfl hl (by decide) rfl (fun ls hl => ?_)
    refine lv_aload_n hx hb dX4_lawAt_18 rfl (lv_at hl 1 rfl) ?_
    refine lv_iload_n hx hb dX4_lawAt_19 rfl (lv_at hl 0 rfl) ?_
    refine mc_v S hK hP hS (As := [.int v_4]) (rest := []) (mt4_noNames l hA v_4 M_1 _ h) (cwV 1 S.2.2.2.2 (lw_V q1968 q1970 qs121 q145 q1971) rfl rfl rfl cdX4_noNames ⟨Nat.le_of_ble_eq_true rfl, Nat.le_of_ble_eq_true rfl⟩) rfl rfl hl.1 (Nat.le_of_ble_eq_true rfl) dX4_lawAt_20 ⟨Nat.le_refl _, Nat.le_refl _⟩ (fun M_5 H locs h hP hS => ?_)
    refine lv_aload_n hx hb dX4_lawAt_23 rfl (lv_at hl 1 rfl) ?_
    refine mg_r S hK hP (k := 62) (by decide) (by decide) q1482 dX4_lawAt_24 ?_
    refine lv_iconst hx hb dX4_lawAt_27 kc_1 ?_
    refine lv_aload_n hx hb dX4_lawAt_28 rfl (lv_at hl 1 rfl) ?_
    refine mg_r S hK hP (k := 33) (by decide) (by decide) q1453 dX4_lawAt_29 ?_
    refine lv_iload_n hx hb dX4_lawAt_32 rfl (lv_at hl 2 rfl) ?_
    obtain ⟨hi, h⟩ := h
    refine ml_a S hK hP (k := 33) af_33 rfl hi dX4_lawAt_33 ?_
    refine lv_aload_n hx hb dX4_lawAt_34 rfl (lv_at hl 1 rfl) ?_
    refine mg_r S hK hP (k := 28) (by decide) (by decide) q1448 dX4_lawAt_35 ?_
    refine lv_iload_n hx hb dX4_lawAt_38 rfl (lv_at hl 0 rfl) ?_
    obtain ⟨hi, h⟩ := h
    refine ml_a S hK hP (k := 28) af_28 rfl hi dX4_lawAt_39 ?_
    refine lv_isub hx hb dX4_lawAt_40 ?_
    refine lv_i2l hx hb dX4_lawAt_41 rfl ?_
    obtain ⟨hi, h⟩ := h
    refine ms_b S hK hA hP hS (k := 62) af_62 rfl hi dX4_lawAt_42 (fun M_6 H locs e_M_6 hP hS => ?_)
    replace h := h M_6 e_M_6
    refine lv_aload_n hx hb dX4_lawAt_43 rfl (lv_at hl 1 rfl) ?_
    refine mg_r S hK hP (k := 62) (by decide) (by decide) q1482 dX4_lawAt_44 ?_
    refine lv_iconst hx hb dX4_lawAt_47 kc_2 ?_
    refine lv_aload_n hx hb dX4_lawAt_48 rfl (lv_at hl 1 rfl) ?_
    refine lv_iload_n hx hb dX4_lawAt_49 rfl (lv_at hl 0 rfl) ?_
    refine lv_aload_n hx hb dX4_lawAt_50 rfl (lv_at hl 1 rfl) ?_
    refine mg_r S hK hP (k := 33) (by decide) (by decide) q1453 dX4_lawAt_51 ?_
    refine lv_iload_n hx hb dX4_lawAt_54 rfl (lv_at hl 2 rfl) ?_
    obtain ⟨hi, h⟩ := h
    refine ml_a S hK hP (k := 33) af_33 rfl hi dX4_lawAt_55 ?_
    refine mc_i S hK hP hS (As := [.int v_4, .int (ma M_6 33 (Int32.toNatClampNeg a1))]) (rest := [.int (2 : Int32), .ref (ad 62)]) (mt4_offUpTo l hA v_4 (ma M_6 33 (Int32.toNatClampNeg a1)) M_6 _ h) (cwV 2 S.2.2.2.2 (lw_V q1972 q1974 qs122 q145 q1975) rfl rfl rfl cdX4_offUpTo ⟨Nat.le_of_ble_eq_true rfl, Nat.le_of_ble_eq_true rfl⟩) rfl rfl hl.1 (Nat.le_of_ble_eq_true rfl) dX4_lawAt_56 ⟨Nat.le_refl _, Nat.le_refl _⟩ (fun r_8 M_7 H locs h hP hS => ?_)
    refine lv_i2l hx hb dX4_lawAt_59 rfl ?_
    obtain ⟨hi, h⟩ := h
    refine ms_b S hK hA hP hS (k := 62) af_62 rfl hi dX4_lawAt_60 (fun M_9 H locs e_M_9 hP hS => ?_)
    replace h := h M_9 e_M_9
    refine lv_iconst hx hb dX4_lawAt_61 kc_0 ?_
    refine lv_istore_n (lv' := [(3, .int (0 : Int32)), (2, .int v_4), (0, .ref m0), (1, .int a1)]) hx hb dX4_lawAt_62 rfl hl (by decide) rfl (fun ls hl => ?_)
    obtain ⟨f, h⟩ := h
    exact L63 f _ _ _ _ _ _ hP hS (lv_sub hl [2, 3, 1, 0] rfl) h
  · replace h := h.1 c_3
    refine lv_bipush hx hb dX4_lawAt_8 kb_50 ?_
    exact hret _ _ _ _ _ _ hP hS h rfl dX4_lawAt_10
def w4_law (a1 : Int32) (M : MS) (Post : Int32 → MS → Prop) : Prop := ∀ M_1 : MS, M_1 = si M 2 (0 : Int32) → w4_isHeardWord a1 M_1 (fun r_3 M_2 => (r_3 = 0 → (Post (-1 : Int32) M_2)) ∧ (¬ (r_3 = 0) → (w4_lawAt a1 M_2 (fun r_6 M_5 => Post r_6 M_5))))
abbrev rX4_law : Room := { frames := 4, cells := 0, slots := 0, locals := 96 }
theorem cdX4_law : yX4_law.cls = RX4 ∧ yX4_law.cls ≠ "java/lang/invoke/MethodHandle" ∧ yX4_law.cls ≠ "java/lang/invoke/VarHandle" ∧ (parseMethodDescriptor yX4_law.desc).map (fun d => d.parameters.length) = some 1 := by decide +kernel
set_option maxHeartbeats 4000000 in
set_option maxRecDepth 100000 in
theorem mt4_law (l : Launch) {D : va_G} {cA : Nat → ClassId} {m0 : Nat} {ad : Nat → Nat} (hA : mAd m0 ad) (a1 : Int32) (M : MS) (Post : Int32 → MS → Prop) (h : w4_law a1 M Post) : Met l yX4_law (ws_ yX4_law cX4_law 2 (some .int)) rX4_law (mPc [.ref m0, .int a1] D cA m0 ad M) (va_Qi Post (mB D cA m0 ad) (mF m0 ad)) 0 0 (mF m0 ad) := by
  refine mst_i (own := RX4) (by decide) rfl (Nat.le_of_ble_eq_true rfl) ?_
  intro p e s m args below meth c Q ls S hK hP hS hl hret
  have hx := S.1
  have hb := S.2.1
  have hl : lv_has ls 2 [(0, .ref m0), (1, .int a1)] := hl
  unfold w4_law at h
  refine lv_aload_n hx hb dX4_law_0 rfl (lv_at hl 0 rfl) ?_
  refine lv_iconst hx hb dX4_law_1 kc_0 ?_
  refine mp_i S hK hA hP hS (k := 2) (by decide) (Or.inl rfl) rfl (Or.inl ⟨rfl, rfl⟩) q1422 dX4_law_2 (fun M_1 H locs e_M_1 hP hS => ?_)
  replace h := h M_1 e_M_1
  refine lv_aload_n hx hb dX4_law_5 rfl (lv_at hl 0 rfl) ?_
  refine lv_iload_n hx hb dX4_law_6 rfl (lv_at hl 1 rfl) ?_
  refine mc_i S hK hP hS (As := [.int a1]) (rest := []) (mt4_isHeardWord l hA a1 M_1 _ h) (cwV 1 S.2.2.2.2 (lw_V q1806 q1808 qs98 q145 q1809) rfl rfl rfl cdX4_isHeardWord ⟨Nat.le_of_ble_eq_true rfl, Nat.le_of_ble_eq_true rfl⟩) rfl rfl hl.1 (Nat.le_of_ble_eq_true rfl) dX4_law_7 ⟨Nat.le_refl _, Nat.le_refl _⟩ (fun r_3 M_2 H locs h hP hS => ?_)
  refine lv_if_eq (tgt := 21) hx hb dX4_law_10 (by decide) (fun c_4 => ?_) (fun c_4 => ?_)
  · replace h := h.1 c_4
    refine lv_iconst hx hb dX4_law_21 kc_m1 ?_
    exact hret _ _ _ _ _ _ hP hS h rfl dX4_law_22
  · replace h := h.2 c_4
    refine lv_aload_n hx hb dX4_law_13 rfl (lv_at hl 0 rfl) ?_
    refine lv_iload_n hx hb dX4_law_14 rfl (lv_at hl 1 rfl) ?_
    refine mc_i S hK hP hS (As := [.int a1]) (rest := []) (mt4_lawAt l hA a1 M_2 _ h) (cwV 1 S.2.2.2.2 (lw_V q1960 q1962 qs119 q145 q1963) rfl rfl rfl cdX4_lawAt ⟨Nat.le_of_ble_eq_true rfl, Nat.le_of_ble_eq_true rfl⟩) rfl rfl hl.1 (Nat.le_of_ble_eq_true rfl) dX4_law_15 ⟨Nat.le_refl _, Nat.le_refl _⟩ (fun r_6 M_5 H locs h hP hS => ?_)
    refine lv_goto (tgt := 22) hx hb dX4_law_18 (by decide) ?_
    exact hret _ _ _ _ _ _ hP hS h rfl dX4_law_22
def w4_isFirstOf (a1 : Int32) (a2 : Int32) (M : MS) (Post : Int32 → MS → Prop) : Prop := w4_isHeardWord a1 M (fun r_2 M_1 => (r_2 = 0 → (Post (0 : Int32) M_1)) ∧ (¬ (r_2 = 0) → ((vp_in a1 (mN 32) ∧ ((ma M_1 32 (Int32.toNatClampNeg a1)) = a2 → (w4_isFirst a1 M_1 (fun r_6 M_5 => (r_6 = 0 → (Post (0 : Int32) M_5)) ∧ (¬ (r_6 = 0) → (Post (1 : Int32) M_5))))) ∧ (¬ ((ma M_1 32 (Int32.toNatClampNeg a1)) = a2) → (Post (0 : Int32) M_1))))))
abbrev rX4_isFirstOf : Room := { frames := 4, cells := 0, slots := 0, locals := 87 }
theorem cdX4_isFirstOf : yX4_isFirstOf.cls = RX4 ∧ yX4_isFirstOf.cls ≠ "java/lang/invoke/MethodHandle" ∧ yX4_isFirstOf.cls ≠ "java/lang/invoke/VarHandle" ∧ (parseMethodDescriptor yX4_isFirstOf.desc).map (fun d => d.parameters.length) = some 2 := by decide +kernel
set_option maxHeartbeats 4000000 in
set_option maxRecDepth 100000 in
theorem mt4_isFirstOf (l : Launch) {D : va_G} {cA : Nat → ClassId} {m0 : Nat} {ad : Nat → Nat} (hA : mAd m0 ad) (a1 : Int32) (a2 : Int32) (M : MS) (Post : Int32 → MS → Prop) (h : w4_isFirstOf a1 a2 M Post) : Met l yX4_isFirstOf (ws_ yX4_isFirstOf cX4_isFirstOf 3 (some .boolean)) rX4_isFirstOf (mPc [.ref m0, .int a1, .int a2] D cA m0 ad M) (va_Qi Post (mB D cA m0 ad) (mF m0 ad)) 0 0 (mF m0 ad) := by
  refine mst_i (own := RX4) (by decide) rfl (Nat.le_of_ble_eq_true rfl) ?_
  intro p e s m args below meth c Q ls S hK hP hS hl hret
  have hx := S.1
  have hb := S.2.1
  have hl : lv_has ls 3 [(0, .ref m0), (1, .int a1), (2, .int a2)] := hl
  unfold w4_isFirstOf at h
  refine lv_aload_n hx hb dX4_isFirstOf_0 rfl (lv_at hl 0 rfl) ?_
  refine lv_iload_n hx hb dX4_isFirstOf_1 rfl (lv_at hl 1 rfl) ?_
  refine mc_i S hK hP hS (As := [.int a1]) (rest := []) (mt4_isHeardWord l hA a1 M _ h) (cwV 1 S.2.2.2.2 (lw_V q1806 q1808 qs98 q145 q1809) rfl rfl rfl cdX4_isHeardWord ⟨Nat.le_of_ble_eq_true rfl, Nat.le_of_ble_eq_true rfl⟩) rfl rfl hl.1 (Nat.le_of_ble_eq_true rfl) dX4_isFirstOf_2 ⟨Nat.le_refl _, Nat.le_refl _⟩ (fun r_2 M_1 H locs h hP hS => ?_)
  refine lv_if_eq (tgt := 30) hx hb dX4_isFirstOf_5 (by decide) (fun c_3 => ?_) (fun c_3 => ?_)
  · replace h := h.1 c_3
    refine lv_iconst hx hb dX4_isFirstOf_30 kc_0 ?_
    exact hret _ _ _ _ _ _ hP hS h (vz_nar vz_0) dX4_isFirstOf_31
  · replace h := h.2 c_3
    refine lv_aload_n hx hb dX4_isFirstOf_8 rfl (lv_at hl 0 rfl) ?_
    refine mg_r S hK hP (k := 32) (by decide) (by decide) q1452 dX4_isFirstOf_9 ?_
    refine lv_iload_n hx hb dX4_isFirstOf_12 rfl (lv_at hl 1 rfl) ?_
    obtain ⟨hi, h⟩ := h
    refine ml_a S hK hP (k := 32) af_32 rfl hi dX4_isFirstOf_13 ?_
    refine lv_iload_n hx hb dX4_isFirstOf_14 rfl (lv_at hl 2 rfl) ?_
    refine lv_icmp_ne (tgt := 30) hx hb dX4_isFirstOf_15 (by decide) (fun c_4 => ?_) (fun c_4 => ?_)
    · replace h := h.2 c_4
      refine lv_iconst hx hb dX4_isFirstOf_30 kc_0 ?_
      exact hret _ _ _ _ _ _ hP hS h (vz_nar vz_0) dX4_isFirstOf_31
    · replace h := h.1 c_4
      refine lv_aload_n hx hb dX4_isFirstOf_18 rfl (lv_at hl 0 rfl) ?_
      refine lv_iload_n hx hb dX4_isFirstOf_19 rfl (lv_at hl 1 rfl) ?_
      refine mc_i S hK hP hS (As := [.int a1]) (rest := []) (mt4_isFirst l hA a1 M_1 _ h) (cwV 1 S.2.2.2.2 (lw_V q1821 q1823 qs101 q145 q1824) rfl rfl rfl cdX4_isFirst ⟨Nat.le_of_ble_eq_true rfl, Nat.le_of_ble_eq_true rfl⟩) rfl rfl hl.1 (Nat.le_of_ble_eq_true rfl) dX4_isFirstOf_20 ⟨Nat.le_refl _, Nat.le_refl _⟩ (fun r_6 M_5 H locs h hP hS => ?_)
      refine lv_if_eq (tgt := 30) hx hb dX4_isFirstOf_23 (by decide) (fun c_7 => ?_) (fun c_7 => ?_)
      · replace h := h.1 c_7
        refine lv_iconst hx hb dX4_isFirstOf_30 kc_0 ?_
        exact hret _ _ _ _ _ _ hP hS h (vz_nar vz_0) dX4_isFirstOf_31
      · replace h := h.2 c_7
        refine lv_iconst hx hb dX4_isFirstOf_26 kc_1 ?_
        refine lv_goto (tgt := 31) hx hb dX4_isFirstOf_27 (by decide) ?_
        exact hret _ _ _ _ _ _ hP hS h (vz_nar vz_1) dX4_isFirstOf_31
def w4_putAhead_c57 (a1 : Int32) (k4 : Int32 → Int32 → MS → Prop) (Post : Int32 → MS → Prop) (x3 : Int32) (t0 : Int32) (M : MS) : Prop := ∀ v_5 : Int32, v_5 = x3 + (1 : Int32) → k4 t0 v_5 M
def w4_putAhead_c56 (a1 : Int32) (k4 : Int32 → Int32 → MS → Prop) (Post : Int32 → MS → Prop) (x2 : Int32) (x3 : Int32) (M : MS) : Prop := w4_putAhead_c57 a1 k4 Post x3 x2 M
def w4_putAhead_l4 (a1 : Int32) (Post : Int32 → MS → Prop) : Nat → Int32 → Int32 → MS → Prop
  | 0, _, _, _ => False
  | n + 1, x2, x3, M => (a1 ≤ x3 → (Post x2 M)) ∧ (¬ (a1 ≤ x3) → ((vp_in a1 (mN 32) ∧ w4_asks x3 (ma M 32 (Int32.toNatClampNeg a1)) M (fun r_3 M_2 => (r_3 = 0 → (w4_putAhead_c56 a1 (w4_putAhead_l4 a1 Post n) Post x2 x3 M_2)) ∧ (¬ (r_3 = 0) → ((vp_in x3 (mN 34) ∧ (vp_in a1 (mN 34) ∧ ((ma M_2 34 (Int32.toNatClampNeg x3)) = (ma M_2 34 (Int32.toNatClampNeg a1)) → ((vp_in x3 (mN 35) ∧ ((ma M_2 35 (Int32.toNatClampNeg x3)) < 0 → (w4_putAhead_c56 a1 (w4_putAhead_l4 a1 Post n) Post x2 x3 M_2)) ∧ (¬ ((ma M_2 35 (Int32.toNatClampNeg x3)) < 0) → ((vp_in x3 (mN 35) ∧ w4_putAhead_c57 a1 (w4_putAhead_l4 a1 Post n) Post x3 (ma M_2 35 (Int32.toNatClampNeg x3)) M_2)))))) ∧ (¬ ((ma M_2 34 (Int32.toNatClampNeg x3)) = (ma M_2 34 (Int32.toNatClampNeg a1))) → (w4_putAhead_c56 a1 (w4_putAhead_l4 a1 Post n) Post x2 x3 M_2))))))))))
def w4_putAhead (a1 : Int32) (M : MS) (Post : Int32 → MS → Prop) : Prop := ∃ f, w4_putAhead_l4 a1 Post f (-1 : Int32) (0 : Int32) M
abbrev rX4_putAhead : Room := { frames := 2, cells := 0, slots := 0, locals := 43 }
theorem cdX4_putAhead : yX4_putAhead.cls = RX4 ∧ yX4_putAhead.cls ≠ "java/lang/invoke/MethodHandle" ∧ yX4_putAhead.cls ≠ "java/lang/invoke/VarHandle" ∧ (parseMethodDescriptor yX4_putAhead.desc).map (fun d => d.parameters.length) = some 1 := by decide +kernel
set_option maxHeartbeats 4000000 in
set_option maxRecDepth 100000 in
theorem mt4_putAhead (l : Launch) {D : va_G} {cA : Nat → ClassId} {m0 : Nat} {ad : Nat → Nat} (hA : mAd m0 ad) (a1 : Int32) (M : MS) (Post : Int32 → MS → Prop) (h : w4_putAhead a1 M Post) : Met l yX4_putAhead (ws_ yX4_putAhead cX4_putAhead 4 (some .int)) rX4_putAhead (mPc [.ref m0, .int a1] D cA m0 ad M) (va_Qi Post (mB D cA m0 ad) (mF m0 ad)) 0 0 (mF m0 ad) := by
  refine mst_i (own := RX4) (by decide) rfl (Nat.le_of_ble_eq_true rfl) ?_
  intro p e s m args below meth c Q ls S hK hP hS hl hret
  have hx := S.1
  have hb := S.2.1
  have hl : lv_has ls 4 [(0, .ref m0), (1, .int a1)] := hl
  have C57 : ∀ (k4 : Int32 → Int32 → MS → Prop) (K4 : (∀ (x2 : Int32) (x3 : Int32) (M : MS) (H : Heap) (locs : List Loc) (ls : Array Slot), va_P D vwCl (mo cA m0 ad M) H → va_S (mF m0 ad) s.heap H locs → lv_has ls 4 [(0, .ref m0), (1, .int a1), (2, .int x2), (3, .int x3)] → k4 x2 x3 M → W p l e rX4_putAhead s m args below meth c H locs 0 0 Q (F0 m 4 ls []))), ∀ (x3 : Int32) (t0 : Int32) (M : MS) (H : Heap) (locs : List Loc) (ls : Array Slot), va_P D vwCl (mo cA m0 ad M) H → va_S (mF m0 ad) s.heap H locs → lv_has ls 4 [(0, .ref m0), (1, .int a1), (3, .int x3)] → w4_putAhead_c57 a1 k4 Post x3 t0 M → W p l e rX4_putAhead s m args below meth c H locs 0 0 Q (F0 m 57 ls [.int t0]) := by
    intro k4 K4
    intro x3 t0 M H locs ls hP hS hl h
    unfold w4_putAhead_c57 at h
    refine lv_istore_n (lv' := [(2, .int t0), (0, .ref m0), (1, .int a1), (3, .int x3)]) hx hb dX4_putAhead_57 rfl hl (by decide) rfl (fun ls hl => ?_)
    obtain ⟨v_5, e_v_5⟩ : ∃ y : Int32, y = x3 + (1 : Int32) := ⟨_, rfl⟩
    replace h := h v_5 e_v_5
    refine lv_iinc (v := v_5) (lv' := [(3, .int v_5), (2, .int t0), (0, .ref m0), (1, .int a1)]) hx hb dX4_putAhead_58 hl (k := 3) rfl (by rw [kc_1, e_v_5]) (by decide) rfl (fun ls hl => ?_)
    refine lv_goto (tgt := 4) hx hb dX4_putAhead_61 (by decide) ?_
    exact K4 _ _ _ _ _ _ hP hS (lv_sub hl [2, 3, 1, 0] rfl) h
  have C56 : ∀ (k4 : Int32 → Int32 → MS → Prop) (K4 : (∀ (x2 : Int32) (x3 : Int32) (M : MS) (H : Heap) (locs : List Loc) (ls : Array Slot), va_P D vwCl (mo cA m0 ad M) H → va_S (mF m0 ad) s.heap H locs → lv_has ls 4 [(0, .ref m0), (1, .int a1), (2, .int x2), (3, .int x3)] → k4 x2 x3 M → W p l e rX4_putAhead s m args below meth c H locs 0 0 Q (F0 m 4 ls []))), ∀ (x2 : Int32) (x3 : Int32) (M : MS) (H : Heap) (locs : List Loc) (ls : Array Slot), va_P D vwCl (mo cA m0 ad M) H → va_S (mF m0 ad) s.heap H locs → lv_has ls 4 [(0, .ref m0), (1, .int a1), (2, .int x2), (3, .int x3)] → w4_putAhead_c56 a1 k4 Post x2 x3 M → W p l e rX4_putAhead s m args below meth c H locs 0 0 Q (F0 m 56 ls []) := by
    intro k4 K4
    intro x2 x3 M H locs ls hP hS hl h
    unfold w4_putAhead_c56 at h
    refine lv_iload_n hx hb dX4_putAhead_56 rfl (lv_at hl 2 rfl) ?_
    exact C57 _ K4 _ _ _ _ _ _ hP hS (lv_sub hl [0, 1, 3] rfl) h
  have L4 : ∀ (n : Nat) (x2 : Int32) (x3 : Int32) (M : MS) (H : Heap) (locs : List Loc) (ls : Array Slot), va_P D vwCl (mo cA m0 ad M) H → va_S (mF m0 ad) s.heap H locs → lv_has ls 4 [(0, .ref m0), (1, .int a1), (2, .int x2), (3, .int x3)] → w4_putAhead_l4 a1 Post n x2 x3 M → W p l e rX4_putAhead s m args below meth c H locs 0 0 Q (F0 m 4 ls []) := by
    intro n
    induction n with
    | zero => intro x2 x3 M H locs ls hP hS hl h; rw [w4_putAhead_l4] at h; exact h.elim
    | succ n ih =>
      intro x2 x3 M H locs ls hP hS hl h
      rw [w4_putAhead_l4] at h
      refine lv_iload_n hx hb dX4_putAhead_4 rfl (lv_at hl 3 rfl) ?_
      refine lv_iload_n hx hb dX4_putAhead_5 rfl (lv_at hl 1 rfl) ?_
      refine lv_icmp_ge (tgt := 64) hx hb dX4_putAhead_6 (by decide) (fun c_1 => ?_) (fun c_1 => ?_)
      · replace h := h.1 c_1
        refine lv_iload_n hx hb dX4_putAhead_64 rfl (lv_at hl 2 rfl) ?_
        exact hret _ _ _ _ _ _ hP hS h rfl dX4_putAhead_65
      · replace h := h.2 c_1
        refine lv_aload_n hx hb dX4_putAhead_9 rfl (lv_at hl 0 rfl) ?_
        refine lv_iload_n hx hb dX4_putAhead_10 rfl (lv_at hl 3 rfl) ?_
        refine lv_aload_n hx hb dX4_putAhead_11 rfl (lv_at hl 0 rfl) ?_
        refine mg_r S hK hP (k := 32) (by decide) (by decide) q1452 dX4_putAhead_12 ?_
        refine lv_iload_n hx hb dX4_putAhead_15 rfl (lv_at hl 1 rfl) ?_
        obtain ⟨hi, h⟩ := h
        refine ml_a S hK hP (k := 32) af_32 rfl hi dX4_putAhead_16 ?_
        refine mc_i S hK hP hS (As := [.int x3, .int (ma M 32 (Int32.toNatClampNeg a1))]) (rest := []) (mt4_asks l hA x3 (ma M 32 (Int32.toNatClampNeg a1)) M _ h) (cwV 2 S.2.2.2.2 (lw_V q1833 q1835 qs104 q145 q1836) rfl rfl rfl cdX4_asks ⟨Nat.le_of_ble_eq_true rfl, Nat.le_of_ble_eq_true rfl⟩) rfl rfl hl.1 (Nat.le_of_ble_eq_true rfl) dX4_putAhead_17 ⟨Nat.le_refl _, Nat.le_refl _⟩ (fun r_3 M_2 H locs h hP hS => ?_)
        refine lv_if_eq (tgt := 56) hx hb dX4_putAhead_20 (by decide) (fun c_4 => ?_) (fun c_4 => ?_)
        · replace h := h.1 c_4
          exact C56 _ ih _ _ _ _ _ _ hP hS (lv_sub hl [0, 1, 2, 3] rfl) h
        · replace h := h.2 c_4
          refine lv_aload_n hx hb dX4_putAhead_23 rfl (lv_at hl 0 rfl) ?_
          refine mg_r S hK hP (k := 34) (by decide) (by decide) q1454 dX4_putAhead_24 ?_
          refine lv_iload_n hx hb dX4_putAhead_27 rfl (lv_at hl 3 rfl) ?_
          obtain ⟨hi, h⟩ := h
          refine ml_a S hK hP (k := 34) af_34 rfl hi dX4_putAhead_28 ?_
          refine lv_aload_n hx hb dX4_putAhead_29 rfl (lv_at hl 0 rfl) ?_
          refine mg_r S hK hP (k := 34) (by decide) (by decide) q1454 dX4_putAhead_30 ?_
          refine lv_iload_n hx hb dX4_putAhead_33 rfl (lv_at hl 1 rfl) ?_
          obtain ⟨hi, h⟩ := h
          refine ml_a S hK hP (k := 34) af_34 rfl hi dX4_putAhead_34 ?_
          refine lv_icmp_ne (tgt := 56) hx hb dX4_putAhead_35 (by decide) (fun c_6 => ?_) (fun c_6 => ?_)
          · replace h := h.2 c_6
            exact C56 _ ih _ _ _ _ _ _ hP hS (lv_sub hl [0, 1, 2, 3] rfl) h
          · replace h := h.1 c_6
            refine lv_aload_n hx hb dX4_putAhead_38 rfl (lv_at hl 0 rfl) ?_
            refine mg_r S hK hP (k := 35) (by decide) (by decide) q1455 dX4_putAhead_39 ?_
            refine lv_iload_n hx hb dX4_putAhead_42 rfl (lv_at hl 3 rfl) ?_
            obtain ⟨hi, h⟩ := h
            refine ml_a S hK hP (k := 35) af_35 rfl hi dX4_putAhead_43 ?_
            refine lv_if_lt (tgt := 56) hx hb dX4_putAhead_44 (by decide) (fun c_7 => ?_) (fun c_7 => ?_)
            · replace h := h.1 c_7
              exact C56 _ ih _ _ _ _ _ _ hP hS (lv_sub hl [0, 1, 2, 3] rfl) h
            · replace h := h.2 c_7
              refine lv_aload_n hx hb dX4_putAhead_47 rfl (lv_at hl 0 rfl) ?_
              refine mg_r S hK hP (k := 35) (by decide) (by decide) q1455 dX4_putAhead_48 ?_
              refine lv_iload_n hx hb dX4_putAhead_51 rfl (lv_at hl 3 rfl) ?_
              obtain ⟨hi, h⟩ := h
              refine ml_a S hK hP (k := 35) af_35 rfl hi dX4_putAhead_52 ?_
              refine lv_goto (tgt := 57) hx hb dX4_putAhead_53 (by decide) ?_
              exact C57 _ ih _ _ _ _ _ _ hP hS (lv_sub hl [0, 1, 3] rfl) h
  unfold w4_putAhead at h
  refine lv_iconst hx hb dX4_putAhead_0 kc_m1 ?_
  refine lv_istore_n (lv' := [(2, .int (-1 : Int32)), (0, .ref m0), (1, .int a1)]) hx hb dX4_putAhead_1 rfl hl (by decide) rfl (fun ls hl => ?_)
  refine lv_iconst hx hb dX4_putAhead_2 kc_0 ?_
  refine lv_istore_n (lv' := [(3, .int (0 : Int32)), (2, .int (-1 : Int32)), (0, .ref m0), (1, .int a1)]) hx hb dX4_putAhead_3 rfl hl (by decide) rfl (fun ls hl => ?_)
  obtain ⟨f, h⟩ := h
  exact L4 f _ _ _ _ _ _ hP hS (lv_sub hl [2, 3, 1, 0] rfl) h
def w4_drawn (a1 : Int32) (M : MS) (Post : Int32 → MS → Prop) : Prop := ∀ M_1 : MS, M_1 = sl M 65 ((((ml M 65) * (1103515245 : Int64)) + (12345 : Int64)) &&& (2147483647 : Int64)) → (¬ a1.toInt64 = 0 ∧ Post ((((ml M_1 65) / (65536 : Int64)) - ((ml M_1 65) / (65536 : Int64)) / a1.toInt64 * a1.toInt64).toInt32) M_1)
abbrev rX4_drawn : Room := { frames := 0, cells := 0, slots := 0, locals := 0 }
theorem cdX4_drawn : yX4_drawn.cls = RX4 ∧ yX4_drawn.cls ≠ "java/lang/invoke/MethodHandle" ∧ yX4_drawn.cls ≠ "java/lang/invoke/VarHandle" ∧ (parseMethodDescriptor yX4_drawn.desc).map (fun d => d.parameters.length) = some 1 := by decide +kernel
set_option maxHeartbeats 4000000 in
set_option maxRecDepth 100000 in
theorem mt4_drawn (l : Launch) {D : va_G} {cA : Nat → ClassId} {m0 : Nat} {ad : Nat → Nat} (hA : mAd m0 ad) (a1 : Int32) (M : MS) (Post : Int32 → MS → Prop) (h : w4_drawn a1 M Post) : Met l yX4_drawn (ws_ yX4_drawn cX4_drawn 2 (some .int)) rX4_drawn (mPc [.ref m0, .int a1] D cA m0 ad M) (va_Qi Post (mB D cA m0 ad) (mF m0 ad)) 0 0 (mF m0 ad) := by
  refine mst_i (own := RX4) (by decide) rfl (Nat.le_of_ble_eq_true rfl) ?_
  intro p e s m args below meth c Q ls S hK hP hS hl hret
  have hx := S.1
  have hb := S.2.1
  have hl : lv_has ls 2 [(0, .ref m0), (1, .int a1)] := hl
  unfold w4_drawn at h
  refine lv_aload_n hx hb dX4_drawn_0 rfl (lv_at hl 0 rfl) ?_
  refine lv_aload_n hx hb dX4_drawn_1 rfl (lv_at hl 0 rfl) ?_
  refine mg_l S hK hP (k := 65) (by decide) rfl q1485 dX4_drawn_2 ?_
  refine lv_ldc2 (own := RX4) (v := 1103515245) hx hb S.2.2.2.1 (S.2.2.2.2 _ q2014) dX4_drawn_5 ?_
  refine lv_lmul hx hb dX4_drawn_8 ?_
  refine lv_ldc2 (own := RX4) (v := 12345) hx hb S.2.2.2.1 (S.2.2.2.2 _ q2015) dX4_drawn_9 ?_
  refine lv_ladd hx hb dX4_drawn_12 ?_
  refine lv_ldc2 (own := RX4) (v := 2147483647) hx hb S.2.2.2.1 (S.2.2.2.2 _ q2016) dX4_drawn_13 ?_
  refine lv_land hx hb dX4_drawn_16 ?_
  refine mp_l S hK hA hP hS (k := 65) (by decide) rfl rfl rfl q1485 dX4_drawn_17 (fun M_1 H locs e_M_1 hP hS => ?_)
  replace h := h M_1 e_M_1
  refine lv_aload_n hx hb dX4_drawn_20 rfl (lv_at hl 0 rfl) ?_
  refine mg_l S hK hP (k := 65) (by decide) rfl q1485 dX4_drawn_21 ?_
  refine lv_ldc2 (own := RX4) (v := 65536) hx hb S.2.2.2.1 (S.2.2.2.2 _ q2017) dX4_drawn_24 ?_
  refine lv_ldiv hx hb dX4_drawn_27 (by decide) ?_
  refine lv_iload_n hx hb dX4_drawn_28 rfl (lv_at hl 1 rfl) ?_
  refine lv_i2l hx hb dX4_drawn_29 rfl ?_
  obtain ⟨hz, h⟩ := h
  refine lv_lrem hx hb dX4_drawn_30 hz ?_
  refine lv_l2i hx hb dX4_drawn_31 rfl ?_
  exact hret _ _ _ _ _ _ hP hS h rfl dX4_drawn_32
def w4_draws_c223 (a1 : Int32) (a2 : Int32) (a3 : Int32) (k91 : Int32 → Int32 → Int32 → MS → Prop) (Post : Int32 → MS → Prop) (x4 : Int32) (x6 : Int32) (t0 : Int32) (t1 : Int32) (M : MS) : Prop := ∀ v_13 : Int32, v_13 = t1 + t0 → ∀ v_14 : Int32, v_14 = x6 + (1 : Int32) → k91 x4 v_13 v_14 M
def w4_draws_c203 (a1 : Int32) (a2 : Int32) (a3 : Int32) (k91 : Int32 → Int32 → Int32 → MS → Prop) (k103 : Int32 → Int32 → Int32 → Int32 → Int32 → MS → Prop) (Post : Int32 → MS → Prop) (x4 : Int32) (x5 : Int32) (x6 : Int32) (x7 : Int32) (x8 : Int32) (M : MS) : Prop := ∀ v_25 : Int32, v_25 = x8 + (1 : Int32) → k103 x4 x5 x6 x7 v_25 M
def w4_draws_c200 (a1 : Int32) (a2 : Int32) (a3 : Int32) (k91 : Int32 → Int32 → Int32 → MS → Prop) (k103 : Int32 → Int32 → Int32 → Int32 → Int32 → MS → Prop) (Post : Int32 → MS → Prop) (x4 : Int32) (x5 : Int32) (x6 : Int32) (x8 : Int32) (t0 : Int32) (t1 : Int32) (M : MS) : Prop := ∀ v_24 : Int32, v_24 = t1 + t0 → w4_draws_c203 a1 a2 a3 k91 k103 Post x4 x5 x6 v_24 x8 M
def w4_draws_c174 (a1 : Int32) (a2 : Int32) (a3 : Int32) (k91 : Int32 → Int32 → Int32 → MS → Prop) (k103 : Int32 → Int32 → Int32 → Int32 → Int32 → MS → Prop) (Post : Int32 → MS → Prop) (x4 : Int32) (x5 : Int32) (x6 : Int32) (x7 : Int32) (x8 : Int32) (t0 : Int32) (M : MS) : Prop := (vp_in x8 (mN 34) ∧ (vp_in (ma M 34 (Int32.toNatClampNeg x8)) (mN 23) ∧ (t0 = (ma M 23 (Int32.toNatClampNeg (ma M 34 (Int32.toNatClampNeg x8)))) → (w4_draws_c200 a1 a2 a3 k91 k103 Post x4 x5 x6 x8 (1 : Int32) x7 M)) ∧ (¬ (t0 = (ma M 23 (Int32.toNatClampNeg (ma M 34 (Int32.toNatClampNeg x8))))) → (w4_draws_c200 a1 a2 a3 k91 k103 Post x4 x5 x6 x8 (0 : Int32) x7 M))))
def w4_draws_c158 (a1 : Int32) (a2 : Int32) (a3 : Int32) (k91 : Int32 → Int32 → Int32 → MS → Prop) (k103 : Int32 → Int32 → Int32 → Int32 → Int32 → MS → Prop) (Post : Int32 → MS → Prop) (x4 : Int32) (x5 : Int32) (x6 : Int32) (x7 : Int32) (x8 : Int32) (M : MS) : Prop := (vp_in x8 (mN 34) ∧ (vp_in (ma M 34 (Int32.toNatClampNeg x8)) (mN 22) ∧ w4_drawn (ma M 22 (Int32.toNatClampNeg (ma M 34 (Int32.toNatClampNeg x8)))) M (fun r_22 M_21 => w4_draws_c174 a1 a2 a3 k91 k103 Post x4 x5 x6 x7 x8 r_22 M_21)))
def w4_draws_l103 (a1 : Int32) (a2 : Int32) (a3 : Int32) (k91 : Int32 → Int32 → Int32 → MS → Prop) (Post : Int32 → MS → Prop) : Nat → Int32 → Int32 → Int32 → Int32 → Int32 → MS → Prop
  | 0, _, _, _, _, _, _ => False
  | n + 1, x4, x5, x6, x7, x8, M => ((mi M 13) ≤ x8 → ((x7 < x4 → (w4_draws_c223 a1 a2 a3 k91 Post x4 x6 (0 : Int32) x5 M)) ∧ (¬ (x7 < x4) → (w4_draws_c223 a1 a2 a3 k91 Post x4 x6 (1 : Int32) x5 M)))) ∧ (¬ ((mi M 13) ≤ x8) → (w4_isFirstOf x8 a1 M (fun r_16 M_15 => (r_16 = 0 → (w4_draws_c203 a1 a2 a3 k91 (w4_draws_l103 a1 a2 a3 k91 Post n) Post x4 x5 x6 x7 x8 M_15)) ∧ (¬ (r_16 = 0) → (w4_putAhead x8 M_15 (fun r_19 M_18 => (r_19 < 0 → (w4_draws_c158 a1 a2 a3 k91 (w4_draws_l103 a1 a2 a3 k91 Post n) Post x4 x5 x6 x7 x8 M_18)) ∧ (¬ (r_19 < 0) → (w4_drawn (100 : Int32) M_18 (fun r_27 M_26 => w4_lawAt x8 M_26 (fun r_29 M_28 => (r_29 ≤ r_27 → (w4_draws_c158 a1 a2 a3 k91 (w4_draws_l103 a1 a2 a3 k91 Post n) Post x4 x5 x6 x7 x8 M_28)) ∧ (¬ (r_29 ≤ r_27) → (w4_draws_c174 a1 a2 a3 k91 (w4_draws_l103 a1 a2 a3 k91 Post n) Post x4 x5 x6 x7 x8 r_19 M_28))))))))))))
def w4_draws_l91 (a1 : Int32) (a2 : Int32) (a3 : Int32) (Post : Int32 → MS → Prop) : Nat → Int32 → Int32 → Int32 → MS → Prop
  | 0, _, _, _, _ => False
  | n + 1, x4, x5, x6, M => (a3 ≤ x6 → (Post x5 M)) ∧ (¬ (a3 ≤ x6) → (∃ f, w4_draws_l103 a1 a2 a3 (w4_draws_l91 a1 a2 a3 Post n) Post f x4 x5 x6 (0 : Int32) (0 : Int32) M))
def w4_draws_c70 (a1 : Int32) (a2 : Int32) (a3 : Int32) (k35 : Int32 → Int32 → MS → Prop) (Post : Int32 → MS → Prop) (x5 : Int32) (t0 : Int32) (t1 : Int32) (M : MS) : Prop := ∀ v_34 : Int32, v_34 = t1 + t0 → ∀ v_35 : Int32, v_35 = x5 + (1 : Int32) → k35 v_34 v_35 M
def w4_draws_c69 (a1 : Int32) (a2 : Int32) (a3 : Int32) (k35 : Int32 → Int32 → MS → Prop) (Post : Int32 → MS → Prop) (x5 : Int32) (t0 : Int32) (M : MS) : Prop := w4_draws_c70 a1 a2 a3 k35 Post x5 (0 : Int32) t0 M
def w4_draws_l35 (a1 : Int32) (a2 : Int32) (a3 : Int32) (Post : Int32 → MS → Prop) : Nat → Int32 → Int32 → MS → Prop
  | 0, _, _, _ => False
  | n + 1, x4, x5, M => ((mi M 13) ≤ x5 → (∀ M_9 : MS, M_9 = sl M 65 a2.toInt64 → ∃ f, w4_draws_l91 a1 a2 a3 Post f x4 (0 : Int32) (0 : Int32) M_9)) ∧ (¬ ((mi M 13) ≤ x5) → (w4_isFirstOf x5 a1 M (fun r_32 M_31 => (r_32 = 0 → (w4_draws_c69 a1 a2 a3 (w4_draws_l35 a1 a2 a3 Post n) Post x5 x4 M_31)) ∧ (¬ (r_32 = 0) → (w4_isRight x5 M_31 (fun r_37 M_36 => (r_37 = 0 → (w4_draws_c69 a1 a2 a3 (w4_draws_l35 a1 a2 a3 Post n) Post x5 x4 M_36)) ∧ (¬ (r_37 = 0) → (w4_draws_c70 a1 a2 a3 (w4_draws_l35 a1 a2 a3 Post n) Post x5 (1 : Int32) x4 M_36))))))))
def w4_draws (a1 : Int32) (a2 : Int32) (a3 : Int32) (M : MS) (Post : Int32 → MS → Prop) : Prop := ∀ M_1 : MS, M_1 = si M 2 (0 : Int32) → w4_isTeller a1 M_1 (fun r_3 M_2 => (r_3 = 0 → (Post (-1 : Int32) M_2)) ∧ (¬ (r_3 = 0) → ((a2 < 0 → (Post (-1 : Int32) M_2)) ∧ (¬ (a2 < 0) → (w4_isIn a3 (1 : Int32) (99 : Int32) (fun r_6 => (r_6 = 0 → (Post (-1 : Int32) M_2)) ∧ (¬ (r_6 = 0) → (∃ f, w4_draws_l35 a1 a2 a3 Post f (0 : Int32) (0 : Int32) M_2))))))))
abbrev rX4_draws : Room := { frames := 5, cells := 0, slots := 0, locals := 109 }
theorem cdX4_draws : yX4_draws.cls = RX4 ∧ yX4_draws.cls ≠ "java/lang/invoke/MethodHandle" ∧ yX4_draws.cls ≠ "java/lang/invoke/VarHandle" ∧ (parseMethodDescriptor yX4_draws.desc).map (fun d => d.parameters.length) = some 3 := by decide +kernel
set_option maxHeartbeats 4000000 in
set_option maxRecDepth 100000 in
theorem mt4_draws (l : Launch) {D : va_G} {cA : Nat → ClassId} {m0 : Nat} {ad : Nat → Nat} (hA : mAd m0 ad) (a1 : Int32) (a2 : Int32) (a3 : Int32) (M : MS) (Post : Int32 → MS → Prop) (h : w4_draws a1 a2 a3 M Post) : Met l yX4_draws (ws_ yX4_draws cX4_draws 11 (some .int)) rX4_draws (mPc [.ref m0, .int a1, .int a2, .int a3] D cA m0 ad M) (va_Qi Post (mB D cA m0 ad) (mF m0 ad)) 0 0 (mF m0 ad) := by
  refine mst_i (own := RX4) (by decide) rfl (Nat.le_of_ble_eq_true rfl) ?_
  intro p e s m args below meth c Q ls S hK hP hS hl hret
  have hx := S.1
  have hb := S.2.1
  have hl : lv_has ls 11 [(0, .ref m0), (1, .int a1), (2, .int a2), (3, .int a3)] := hl
  have C223 : ∀ (k91 : Int32 → Int32 → Int32 → MS → Prop) (K91 : (∀ (x4 : Int32) (x5 : Int32) (x6 : Int32) (M : MS) (H : Heap) (locs : List Loc) (ls : Array Slot), va_P D vwCl (mo cA m0 ad M) H → va_S (mF m0 ad) s.heap H locs → lv_has ls 11 [(0, .ref m0), (1, .int a1), (3, .int a3), (4, .int x4), (5, .int x5), (6, .int x6)] → k91 x4 x5 x6 M → W p l e rX4_draws s m args below meth c H locs 0 0 Q (F0 m 91 ls []))), ∀ (x4 : Int32) (x6 : Int32) (t0 : Int32) (t1 : Int32) (M : MS) (H : Heap) (locs : List Loc) (ls : Array Slot), va_P D vwCl (mo cA m0 ad M) H → va_S (mF m0 ad) s.heap H locs → lv_has ls 11 [(0, .ref m0), (1, .int a1), (3, .int a3), (4, .int x4), (6, .int x6)] → w4_draws_c223 a1 a2 a3 k91 Post x4 x6 t0 t1 M → W p l e rX4_draws s m args below meth c H locs 0 0 Q (F0 m 223 ls [.int t0, .int t1]) := by
    intro k91 K91
    intro x4 x6 t0 t1 M H locs ls hP hS hl h
    unfold w4_draws_c223 at h
    refine lv_iadd hx hb dX4_draws_223 ?_
    refine lv_topi (fun v_13 e_v_13 => ?_)
    replace h := h v_13 e_v_13
    refine lv_istore (lv' := [(5, .int v_13), (0, .ref m0), (1, .int a1), (3, .int a3), (4, .int x4), (6, .int x6)]) hx hb dX4_draws_224 hl (by decide) rfl (fun ls hl => ?_)
    obtain ⟨v_14, e_v_14⟩ : ∃ y : Int32, y = x6 + (1 : Int32) := ⟨_, rfl⟩
    replace h := h v_14 e_v_14
    refine lv_iinc (v := v_14) (lv' := [(6, .int v_14), (5, .int v_13), (0, .ref m0), (1, .int a1), (3, .int a3), (4, .int x4)]) hx hb dX4_draws_226 hl (k := 5) rfl (by rw [kc_1, e_v_14]) (by decide) rfl (fun ls hl => ?_)
    refine lv_goto (tgt := 91) hx hb dX4_draws_229 (by decide) ?_
    exact K91 _ _ _ _ _ _ _ hP hS (lv_sub hl [2, 3, 4, 5, 1, 0] rfl) h
  have C203 : ∀ (k91 : Int32 → Int32 → Int32 → MS → Prop) (K91 : (∀ (x4 : Int32) (x5 : Int32) (x6 : Int32) (M : MS) (H : Heap) (locs : List Loc) (ls : Array Slot), va_P D vwCl (mo cA m0 ad M) H → va_S (mF m0 ad) s.heap H locs → lv_has ls 11 [(0, .ref m0), (1, .int a1), (3, .int a3), (4, .int x4), (5, .int x5), (6, .int x6)] → k91 x4 x5 x6 M → W p l e rX4_draws s m args below meth c H locs 0 0 Q (F0 m 91 ls []))) (k103 : Int32 → Int32 → Int32 → Int32 → Int32 → MS → Prop) (K103 : (∀ (x4 : Int32) (x5 : Int32) (x6 : Int32) (x7 : Int32) (x8 : Int32) (M : MS) (H : Heap) (locs : List Loc) (ls : Array Slot), va_P D vwCl (mo cA m0 ad M) H → va_S (mF m0 ad) s.heap H locs → lv_has ls 11 [(0, .ref m0), (1, .int a1), (3, .int a3), (4, .int x4), (5, .int x5), (6, .int x6), (7, .int x7), (8, .int x8)] → k103 x4 x5 x6 x7 x8 M → W p l e rX4_draws s m args below meth c H locs 0 0 Q (F0 m 103 ls []))), ∀ (x4 : Int32) (x5 : Int32) (x6 : Int32) (x7 : Int32) (x8 : Int32) (M : MS) (H : Heap) (locs : List Loc) (ls : Array Slot), va_P D vwCl (mo cA m0 ad M) H → va_S (mF m0 ad) s.heap H locs → lv_has ls 11 [(0, .ref m0), (1, .int a1), (3, .int a3), (4, .int x4), (5, .int x5), (6, .int x6), (7, .int x7), (8, .int x8)] → w4_draws_c203 a1 a2 a3 k91 k103 Post x4 x5 x6 x7 x8 M → W p l e rX4_draws s m args below meth c H locs 0 0 Q (F0 m 203 ls []) := by
    intro k91 K91 k103 K103
    intro x4 x5 x6 x7 x8 M H locs ls hP hS hl h
    unfold w4_draws_c203 at h
    obtain ⟨v_25, e_v_25⟩ : ∃ y : Int32, y = x8 + (1 : Int32) := ⟨_, rfl⟩
    replace h := h v_25 e_v_25
    refine lv_iinc (v := v_25) (lv' := [(8, .int v_25), (0, .ref m0), (1, .int a1), (3, .int a3), (4, .int x4), (5, .int x5), (6, .int x6), (7, .int x7)]) hx hb dX4_draws_203 hl (k := 7) rfl (by rw [kc_1, e_v_25]) (by decide) rfl (fun ls hl => ?_)
    refine lv_goto (tgt := 103) hx hb dX4_draws_206 (by decide) ?_
    exact K103 _ _ _ _ _ _ _ _ _ hP hS (lv_sub hl [1, 2, 3, 4, 5, 6, 7, 0] rfl) h
  have C200 : ∀ (k91 : Int32 → Int32 → Int32 → MS → Prop) (K91 : (∀ (x4 : Int32) (x5 : Int32) (x6 : Int32) (M : MS) (H : Heap) (locs : List Loc) (ls : Array Slot), va_P D vwCl (mo cA m0 ad M) H → va_S (mF m0 ad) s.heap H locs → lv_has ls 11 [(0, .ref m0), (1, .int a1), (3, .int a3), (4, .int x4), (5, .int x5), (6, .int x6)] → k91 x4 x5 x6 M → W p l e rX4_draws s m args below meth c H locs 0 0 Q (F0 m 91 ls []))) (k103 : Int32 → Int32 → Int32 → Int32 → Int32 → MS → Prop) (K103 : (∀ (x4 : Int32) (x5 : Int32) (x6 : Int32) (x7 : Int32) (x8 : Int32) (M : MS) (H : Heap) (locs : List Loc) (ls : Array Slot), va_P D vwCl (mo cA m0 ad M) H → va_S (mF m0 ad) s.heap H locs → lv_has ls 11 [(0, .ref m0), (1, .int a1), (3, .int a3), (4, .int x4), (5, .int x5), (6, .int x6), (7, .int x7), (8, .int x8)] → k103 x4 x5 x6 x7 x8 M → W p l e rX4_draws s m args below meth c H locs 0 0 Q (F0 m 103 ls []))), ∀ (x4 : Int32) (x5 : Int32) (x6 : Int32) (x8 : Int32) (t0 : Int32) (t1 : Int32) (M : MS) (H : Heap) (locs : List Loc) (ls : Array Slot), va_P D vwCl (mo cA m0 ad M) H → va_S (mF m0 ad) s.heap H locs → lv_has ls 11 [(0, .ref m0), (1, .int a1), (3, .int a3), (4, .int x4), (5, .int x5), (6, .int x6), (8, .int x8)] → w4_draws_c200 a1 a2 a3 k91 k103 Post x4 x5 x6 x8 t0 t1 M → W p l e rX4_draws s m args below meth c H locs 0 0 Q (F0 m 200 ls [.int t0, .int t1]) := by
    intro k91 K91 k103 K103
    intro x4 x5 x6 x8 t0 t1 M H locs ls hP hS hl h
    unfold w4_draws_c200 at h
    refine lv_iadd hx hb dX4_draws_200 ?_
    refine lv_topi (fun v_24 e_v_24 => ?_)
    replace h := h v_24 e_v_24
    refine lv_istore (lv' := [(7, .int v_24), (0, .ref m0), (1, .int a1), (3, .int a3), (4, .int x4), (5, .int x5), (6, .int x6), (8, .int x8)]) hx hb dX4_draws_201 hl (by decide) rfl (fun ls hl => ?_)
    exact C203 _ K91 _ K103 _ _ _ _ _ _ _ _ _ hP hS (lv_sub hl [1, 2, 3, 4, 5, 6, 0, 7] rfl) h
  have C174 : ∀ (k91 : Int32 → Int32 → Int32 → MS → Prop) (K91 : (∀ (x4 : Int32) (x5 : Int32) (x6 : Int32) (M : MS) (H : Heap) (locs : List Loc) (ls : Array Slot), va_P D vwCl (mo cA m0 ad M) H → va_S (mF m0 ad) s.heap H locs → lv_has ls 11 [(0, .ref m0), (1, .int a1), (3, .int a3), (4, .int x4), (5, .int x5), (6, .int x6)] → k91 x4 x5 x6 M → W p l e rX4_draws s m args below meth c H locs 0 0 Q (F0 m 91 ls []))) (k103 : Int32 → Int32 → Int32 → Int32 → Int32 → MS → Prop) (K103 : (∀ (x4 : Int32) (x5 : Int32) (x6 : Int32) (x7 : Int32) (x8 : Int32) (M : MS) (H : Heap) (locs : List Loc) (ls : Array Slot), va_P D vwCl (mo cA m0 ad M) H → va_S (mF m0 ad) s.heap H locs → lv_has ls 11 [(0, .ref m0), (1, .int a1), (3, .int a3), (4, .int x4), (5, .int x5), (6, .int x6), (7, .int x7), (8, .int x8)] → k103 x4 x5 x6 x7 x8 M → W p l e rX4_draws s m args below meth c H locs 0 0 Q (F0 m 103 ls []))), ∀ (x4 : Int32) (x5 : Int32) (x6 : Int32) (x7 : Int32) (x8 : Int32) (t0 : Int32) (M : MS) (H : Heap) (locs : List Loc) (ls : Array Slot), va_P D vwCl (mo cA m0 ad M) H → va_S (mF m0 ad) s.heap H locs → lv_has ls 11 [(0, .ref m0), (1, .int a1), (3, .int a3), (4, .int x4), (5, .int x5), (6, .int x6), (7, .int x7), (8, .int x8)] → w4_draws_c174 a1 a2 a3 k91 k103 Post x4 x5 x6 x7 x8 t0 M → W p l e rX4_draws s m args below meth c H locs 0 0 Q (F0 m 174 ls [.int t0]) := by
    intro k91 K91 k103 K103
    intro x4 x5 x6 x7 x8 t0 M H locs ls hP hS hl h
    unfold w4_draws_c174 at h
    refine lv_istore (lv' := [(10, .int t0), (0, .ref m0), (1, .int a1), (3, .int a3), (4, .int x4), (5, .int x5), (6, .int x6), (7, .int x7), (8, .int x8)]) hx hb dX4_draws_174 hl (by decide) rfl (fun ls hl => ?_)
    refine lv_iload hx hb dX4_draws_176 (lv_at hl 7 rfl) ?_
    refine lv_iload hx hb dX4_draws_178 (lv_at hl 0 rfl) ?_
    refine lv_aload_n hx hb dX4_draws_180 rfl (lv_at hl 1 rfl) ?_
    refine mg_r S hK hP (k := 23) (by decide) (by decide) q1443 dX4_draws_181 ?_
    refine lv_aload_n hx hb dX4_draws_184 rfl (lv_at hl 1 rfl) ?_
    refine mg_r S hK hP (k := 34) (by decide) (by decide) q1454 dX4_draws_185 ?_
    refine lv_iload hx hb dX4_draws_188 (lv_at hl 8 rfl) ?_
    obtain ⟨hi, h⟩ := h
    refine ml_a S hK hP (k := 34) af_34 rfl hi dX4_draws_190 ?_
    obtain ⟨hi, h⟩ := h
    refine ml_a S hK hP (k := 23) af_23 rfl hi dX4_draws_191 ?_
    refine lv_icmp_ne (tgt := 199) hx hb dX4_draws_192 (by decide) (fun c_23 => ?_) (fun c_23 => ?_)
    · replace h := h.2 c_23
      refine lv_iconst hx hb dX4_draws_199 kc_0 ?_
      exact C200 _ K91 _ K103 _ _ _ _ _ _ _ _ _ _ hP hS (lv_sub hl [1, 2, 3, 4, 5, 6, 8] rfl) h
    · replace h := h.1 c_23
      refine lv_iconst hx hb dX4_draws_195 kc_1 ?_
      refine lv_goto (tgt := 200) hx hb dX4_draws_196 (by decide) ?_
      exact C200 _ K91 _ K103 _ _ _ _ _ _ _ _ _ _ hP hS (lv_sub hl [1, 2, 3, 4, 5, 6, 8] rfl) h
  have C158 : ∀ (k91 : Int32 → Int32 → Int32 → MS → Prop) (K91 : (∀ (x4 : Int32) (x5 : Int32) (x6 : Int32) (M : MS) (H : Heap) (locs : List Loc) (ls : Array Slot), va_P D vwCl (mo cA m0 ad M) H → va_S (mF m0 ad) s.heap H locs → lv_has ls 11 [(0, .ref m0), (1, .int a1), (3, .int a3), (4, .int x4), (5, .int x5), (6, .int x6)] → k91 x4 x5 x6 M → W p l e rX4_draws s m args below meth c H locs 0 0 Q (F0 m 91 ls []))) (k103 : Int32 → Int32 → Int32 → Int32 → Int32 → MS → Prop) (K103 : (∀ (x4 : Int32) (x5 : Int32) (x6 : Int32) (x7 : Int32) (x8 : Int32) (M : MS) (H : Heap) (locs : List Loc) (ls : Array Slot), va_P D vwCl (mo cA m0 ad M) H → va_S (mF m0 ad) s.heap H locs → lv_has ls 11 [(0, .ref m0), (1, .int a1), (3, .int a3), (4, .int x4), (5, .int x5), (6, .int x6), (7, .int x7), (8, .int x8)] → k103 x4 x5 x6 x7 x8 M → W p l e rX4_draws s m args below meth c H locs 0 0 Q (F0 m 103 ls []))), ∀ (x4 : Int32) (x5 : Int32) (x6 : Int32) (x7 : Int32) (x8 : Int32) (M : MS) (H : Heap) (locs : List Loc) (ls : Array Slot), va_P D vwCl (mo cA m0 ad M) H → va_S (mF m0 ad) s.heap H locs → lv_has ls 11 [(0, .ref m0), (1, .int a1), (3, .int a3), (4, .int x4), (5, .int x5), (6, .int x6), (7, .int x7), (8, .int x8)] → w4_draws_c158 a1 a2 a3 k91 k103 Post x4 x5 x6 x7 x8 M → W p l e rX4_draws s m args below meth c H locs 0 0 Q (F0 m 158 ls []) := by
    intro k91 K91 k103 K103
    intro x4 x5 x6 x7 x8 M H locs ls hP hS hl h
    unfold w4_draws_c158 at h
    refine lv_aload_n hx hb dX4_draws_158 rfl (lv_at hl 0 rfl) ?_
    refine lv_aload_n hx hb dX4_draws_159 rfl (lv_at hl 0 rfl) ?_
    refine mg_r S hK hP (k := 22) (by decide) (by decide) q1442 dX4_draws_160 ?_
    refine lv_aload_n hx hb dX4_draws_163 rfl (lv_at hl 0 rfl) ?_
    refine mg_r S hK hP (k := 34) (by decide) (by decide) q1454 dX4_draws_164 ?_
    refine lv_iload hx hb dX4_draws_167 (lv_at hl 7 rfl) ?_
    obtain ⟨hi, h⟩ := h
    refine ml_a S hK hP (k := 34) af_34 rfl hi dX4_draws_169 ?_
    obtain ⟨hi, h⟩ := h
    refine ml_a S hK hP (k := 22) af_22 rfl hi dX4_draws_170 ?_
    refine mc_i S hK hP hS (As := [.int (ma M 22 (Int32.toNatClampNeg (ma M 34 (Int32.toNatClampNeg x8))))]) (rest := []) (mt4_drawn l hA (ma M 22 (Int32.toNatClampNeg (ma M 34 (Int32.toNatClampNeg x8)))) M _ h) (cwV 1 S.2.2.2.2 (lw_V q2010 q2012 qs129 q145 q2013) rfl rfl rfl cdX4_drawn ⟨Nat.le_of_ble_eq_true rfl, Nat.le_of_ble_eq_true rfl⟩) rfl rfl hl.1 (Nat.le_of_ble_eq_true rfl) dX4_draws_171 ⟨Nat.le_refl _, Nat.le_refl _⟩ (fun r_22 M_21 H locs h hP hS => ?_)
    exact C174 _ K91 _ K103 _ _ _ _ _ _ _ _ _ _ hP hS (lv_sub hl [0, 1, 2, 3, 4, 5, 6, 7] rfl) h
  have L103 : ∀ (k91 : Int32 → Int32 → Int32 → MS → Prop) (K91 : (∀ (x4 : Int32) (x5 : Int32) (x6 : Int32) (M : MS) (H : Heap) (locs : List Loc) (ls : Array Slot), va_P D vwCl (mo cA m0 ad M) H → va_S (mF m0 ad) s.heap H locs → lv_has ls 11 [(0, .ref m0), (1, .int a1), (3, .int a3), (4, .int x4), (5, .int x5), (6, .int x6)] → k91 x4 x5 x6 M → W p l e rX4_draws s m args below meth c H locs 0 0 Q (F0 m 91 ls []))), ∀ (n : Nat) (x4 : Int32) (x5 : Int32) (x6 : Int32) (x7 : Int32) (x8 : Int32) (M : MS) (H : Heap) (locs : List Loc) (ls : Array Slot), va_P D vwCl (mo cA m0 ad M) H → va_S (mF m0 ad) s.heap H locs → lv_has ls 11 [(0, .ref m0), (1, .int a1), (3, .int a3), (4, .int x4), (5, .int x5), (6, .int x6), (7, .int x7), (8, .int x8)] → w4_draws_l103 a1 a2 a3 k91 Post n x4 x5 x6 x7 x8 M → W p l e rX4_draws s m args below meth c H locs 0 0 Q (F0 m 103 ls []) := by
    intro k91 K91
    intro n
    induction n with
    | zero => intro x4 x5 x6 x7 x8 M H locs ls hP hS hl h; rw [w4_draws_l103] at h; exact h.elim
    | succ n ih =>
      intro x4 x5 x6 x7 x8 M H locs ls hP hS hl h
      rw [w4_draws_l103] at h
      refine lv_iload hx hb dX4_draws_103 (lv_at hl 7 rfl) ?_
      refine lv_aload_n hx hb dX4_draws_105 rfl (lv_at hl 0 rfl) ?_
      refine mg_i S hK hP (k := 13) (by decide) (by decide) q1433 dX4_draws_106 ?_
      refine lv_icmp_ge (tgt := 209) hx hb dX4_draws_109 (by decide) (fun c_11 => ?_) (fun c_11 => ?_)
      · replace h := h.1 c_11
        refine lv_iload hx hb dX4_draws_209 (lv_at hl 4 rfl) ?_
        refine lv_iload hx hb dX4_draws_211 (lv_at hl 6 rfl) ?_
        refine lv_iload hx hb dX4_draws_213 (lv_at hl 3 rfl) ?_
        refine lv_icmp_lt (tgt := 222) hx hb dX4_draws_215 (by decide) (fun c_12 => ?_) (fun c_12 => ?_)
        · replace h := h.1 c_12
          refine lv_iconst hx hb dX4_draws_222 kc_0 ?_
          exact C223 _ K91 _ _ _ _ _ _ _ _ hP hS (lv_sub hl [0, 1, 2, 3, 5] rfl) h
        · replace h := h.2 c_12
          refine lv_iconst hx hb dX4_draws_218 kc_1 ?_
          refine lv_goto (tgt := 223) hx hb dX4_draws_219 (by decide) ?_
          exact C223 _ K91 _ _ _ _ _ _ _ _ hP hS (lv_sub hl [0, 1, 2, 3, 5] rfl) h
      · replace h := h.2 c_11
        refine lv_aload_n hx hb dX4_draws_112 rfl (lv_at hl 0 rfl) ?_
        refine lv_iload hx hb dX4_draws_113 (lv_at hl 7 rfl) ?_
        refine lv_iload_n hx hb dX4_draws_115 rfl (lv_at hl 1 rfl) ?_
        refine mc_i S hK hP hS (As := [.int x8, .int a1]) (rest := []) (mt4_isFirstOf l hA x8 a1 M _ h) (cwV 2 S.2.2.2.2 (lw_V q2002 q2004 qs127 q145 q2005) rfl rfl rfl cdX4_isFirstOf ⟨Nat.le_of_ble_eq_true rfl, Nat.le_of_ble_eq_true rfl⟩) rfl rfl hl.1 (Nat.le_of_ble_eq_true rfl) dX4_draws_116 ⟨Nat.le_refl _, Nat.le_refl _⟩ (fun r_16 M_15 H locs h hP hS => ?_)
        refine lv_if_ne (tgt := 125) hx hb dX4_draws_119 (by decide) (fun c_17 => ?_) (fun c_17 => ?_)
        · replace h := h.2 c_17
          refine lv_aload_n hx hb dX4_draws_125 rfl (lv_at hl 0 rfl) ?_
          refine lv_iload hx hb dX4_draws_126 (lv_at hl 7 rfl) ?_
          refine mc_i S hK hP hS (As := [.int x8]) (rest := []) (mt4_putAhead l hA x8 M_15 _ h) (cwV 1 S.2.2.2.2 (lw_V q2006 q2008 qs128 q145 q2009) rfl rfl rfl cdX4_putAhead ⟨Nat.le_of_ble_eq_true rfl, Nat.le_of_ble_eq_true rfl⟩) rfl rfl hl.1 (Nat.le_of_ble_eq_true rfl) dX4_draws_128 ⟨Nat.le_refl _, Nat.le_refl _⟩ (fun r_19 M_18 H locs h hP hS => ?_)
          refine lv_istore (lv' := [(9, .int r_19), (0, .ref m0), (1, .int a1), (3, .int a3), (4, .int x4), (5, .int x5), (6, .int x6), (7, .int x7), (8, .int x8)]) hx hb dX4_draws_131 hl (by decide) rfl (fun ls hl => ?_)
          refine lv_iload hx hb dX4_draws_133 (lv_at hl 0 rfl) ?_
          refine lv_if_lt (tgt := 158) hx hb dX4_draws_135 (by decide) (fun c_20 => ?_) (fun c_20 => ?_)
          · replace h := h.1 c_20
            exact C158 _ K91 _ ih _ _ _ _ _ _ _ _ _ hP hS (lv_sub hl [1, 2, 3, 4, 5, 6, 7, 8] rfl) h
          · replace h := h.2 c_20
            refine lv_aload_n hx hb dX4_draws_138 rfl (lv_at hl 1 rfl) ?_
            refine lv_bipush hx hb dX4_draws_139 kb_100 ?_
            refine mc_i S hK hP hS (As := [.int (100 : Int32)]) (rest := []) (mt4_drawn l hA (100 : Int32) M_18 _ h) (cwV 1 S.2.2.2.2 (lw_V q2010 q2012 qs129 q145 q2013) rfl rfl rfl cdX4_drawn ⟨Nat.le_of_ble_eq_true rfl, Nat.le_of_ble_eq_true rfl⟩) rfl rfl hl.1 (Nat.le_of_ble_eq_true rfl) dX4_draws_141 ⟨Nat.le_refl _, Nat.le_refl _⟩ (fun r_27 M_26 H locs h hP hS => ?_)
            refine lv_aload_n hx hb dX4_draws_144 rfl (lv_at hl 1 rfl) ?_
            refine lv_iload hx hb dX4_draws_145 (lv_at hl 8 rfl) ?_
            refine mc_i S hK hP hS (As := [.int x8]) (rest := [.int r_27]) (mt4_lawAt l hA x8 M_26 _ h) (cwV 1 S.2.2.2.2 (lw_V q1960 q1962 qs119 q145 q1963) rfl rfl rfl cdX4_lawAt ⟨Nat.le_of_ble_eq_true rfl, Nat.le_of_ble_eq_true rfl⟩) rfl rfl hl.1 (Nat.le_of_ble_eq_true rfl) dX4_draws_147 ⟨Nat.le_refl _, Nat.le_refl _⟩ (fun r_29 M_28 H locs h hP hS => ?_)
            refine lv_icmp_ge (tgt := 158) hx hb dX4_draws_150 (by decide) (fun c_30 => ?_) (fun c_30 => ?_)
            · replace h := h.1 c_30
              exact C158 _ K91 _ ih _ _ _ _ _ _ _ _ _ hP hS (lv_sub hl [1, 2, 3, 4, 5, 6, 7, 8] rfl) h
            · replace h := h.2 c_30
              refine lv_iload hx hb dX4_draws_153 (lv_at hl 0 rfl) ?_
              refine lv_goto (tgt := 174) hx hb dX4_draws_155 (by decide) ?_
              exact C174 _ K91 _ ih _ _ _ _ _ _ _ _ _ _ hP hS (lv_sub hl [1, 2, 3, 4, 5, 6, 7, 8] rfl) h
        · replace h := h.1 c_17
          refine lv_goto (tgt := 203) hx hb dX4_draws_122 (by decide) ?_
          exact C203 _ K91 _ ih _ _ _ _ _ _ _ _ _ hP hS (lv_sub hl [0, 1, 2, 3, 4, 5, 6, 7] rfl) h
  have L91 : ∀ (n : Nat) (x4 : Int32) (x5 : Int32) (x6 : Int32) (M : MS) (H : Heap) (locs : List Loc) (ls : Array Slot), va_P D vwCl (mo cA m0 ad M) H → va_S (mF m0 ad) s.heap H locs → lv_has ls 11 [(0, .ref m0), (1, .int a1), (3, .int a3), (4, .int x4), (5, .int x5), (6, .int x6)] → w4_draws_l91 a1 a2 a3 Post n x4 x5 x6 M → W p l e rX4_draws s m args below meth c H locs 0 0 Q (F0 m 91 ls []) := by
    intro n
    induction n with
    | zero => intro x4 x5 x6 M H locs ls hP hS hl h; rw [w4_draws_l91] at h; exact h.elim
    | succ n ih =>
      intro x4 x5 x6 M H locs ls hP hS hl h
      rw [w4_draws_l91] at h
      refine lv_iload hx hb dX4_draws_91 (lv_at hl 5 rfl) ?_
      refine lv_iload_n hx hb dX4_draws_93 rfl (lv_at hl 2 rfl) ?_
      refine lv_icmp_ge (tgt := 232) hx hb dX4_draws_94 (by decide) (fun c_10 => ?_) (fun c_10 => ?_)
      · replace h := h.1 c_10
        refine lv_iload hx hb dX4_draws_232 (lv_at hl 4 rfl) ?_
        exact hret _ _ _ _ _ _ hP hS h rfl dX4_draws_234
      · replace h := h.2 c_10
        refine lv_iconst hx hb dX4_draws_97 kc_0 ?_
        refine lv_istore (lv' := [(7, .int (0 : Int32)), (0, .ref m0), (1, .int a1), (3, .int a3), (4, .int x4), (5, .int x5), (6, .int x6)]) hx hb dX4_draws_98 hl (by decide) rfl (fun ls hl => ?_)
        refine lv_iconst hx hb dX4_draws_100 kc_0 ?_
        refine lv_istore (lv' := [(8, .int (0 : Int32)), (7, .int (0 : Int32)), (0, .ref m0), (1, .int a1), (3, .int a3), (4, .int x4), (5, .int x5), (6, .int x6)]) hx hb dX4_draws_101 hl (by decide) rfl (fun ls hl => ?_)
        obtain ⟨f, h⟩ := h
        exact L103 _ ih f _ _ _ _ _ _ _ _ _ hP hS (lv_sub hl [2, 3, 4, 5, 6, 7, 1, 0] rfl) h
  have C70 : ∀ (k35 : Int32 → Int32 → MS → Prop) (K35 : (∀ (x4 : Int32) (x5 : Int32) (M : MS) (H : Heap) (locs : List Loc) (ls : Array Slot), va_P D vwCl (mo cA m0 ad M) H → va_S (mF m0 ad) s.heap H locs → lv_has ls 11 [(0, .ref m0), (1, .int a1), (2, .int a2), (3, .int a3), (4, .int x4), (5, .int x5)] → k35 x4 x5 M → W p l e rX4_draws s m args below meth c H locs 0 0 Q (F0 m 35 ls []))), ∀ (x5 : Int32) (t0 : Int32) (t1 : Int32) (M : MS) (H : Heap) (locs : List Loc) (ls : Array Slot), va_P D vwCl (mo cA m0 ad M) H → va_S (mF m0 ad) s.heap H locs → lv_has ls 11 [(0, .ref m0), (1, .int a1), (2, .int a2), (3, .int a3), (5, .int x5)] → w4_draws_c70 a1 a2 a3 k35 Post x5 t0 t1 M → W p l e rX4_draws s m args below meth c H locs 0 0 Q (F0 m 70 ls [.int t0, .int t1]) := by
    intro k35 K35
    intro x5 t0 t1 M H locs ls hP hS hl h
    unfold w4_draws_c70 at h
    refine lv_iadd hx hb dX4_draws_70 ?_
    refine lv_topi (fun v_34 e_v_34 => ?_)
    replace h := h v_34 e_v_34
    refine lv_istore (lv' := [(4, .int v_34), (0, .ref m0), (1, .int a1), (2, .int a2), (3, .int a3), (5, .int x5)]) hx hb dX4_draws_71 hl (by decide) rfl (fun ls hl => ?_)
    obtain ⟨v_35, e_v_35⟩ : ∃ y : Int32, y = x5 + (1 : Int32) := ⟨_, rfl⟩
    replace h := h v_35 e_v_35
    refine lv_iinc (v := v_35) (lv' := [(5, .int v_35), (4, .int v_34), (0, .ref m0), (1, .int a1), (2, .int a2), (3, .int a3)]) hx hb dX4_draws_73 hl (k := 5) rfl (by rw [kc_1, e_v_35]) (by decide) rfl (fun ls hl => ?_)
    refine lv_goto (tgt := 35) hx hb dX4_draws_76 (by decide) ?_
    exact K35 _ _ _ _ _ _ hP hS (lv_sub hl [2, 3, 4, 5, 1, 0] rfl) h
  have C69 : ∀ (k35 : Int32 → Int32 → MS → Prop) (K35 : (∀ (x4 : Int32) (x5 : Int32) (M : MS) (H : Heap) (locs : List Loc) (ls : Array Slot), va_P D vwCl (mo cA m0 ad M) H → va_S (mF m0 ad) s.heap H locs → lv_has ls 11 [(0, .ref m0), (1, .int a1), (2, .int a2), (3, .int a3), (4, .int x4), (5, .int x5)] → k35 x4 x5 M → W p l e rX4_draws s m args below meth c H locs 0 0 Q (F0 m 35 ls []))), ∀ (x5 : Int32) (t0 : Int32) (M : MS) (H : Heap) (locs : List Loc) (ls : Array Slot), va_P D vwCl (mo cA m0 ad M) H → va_S (mF m0 ad) s.heap H locs → lv_has ls 11 [(0, .ref m0), (1, .int a1), (2, .int a2), (3, .int a3), (5, .int x5)] → w4_draws_c69 a1 a2 a3 k35 Post x5 t0 M → W p l e rX4_draws s m args below meth c H locs 0 0 Q (F0 m 69 ls [.int t0]) := by
    intro k35 K35
    intro x5 t0 M H locs ls hP hS hl h
    unfold w4_draws_c69 at h
    refine lv_iconst hx hb dX4_draws_69 kc_0 ?_
    exact C70 _ K35 _ _ _ _ _ _ _ hP hS (lv_sub hl [0, 1, 2, 3, 4] rfl) h
  have L35 : ∀ (n : Nat) (x4 : Int32) (x5 : Int32) (M : MS) (H : Heap) (locs : List Loc) (ls : Array Slot), va_P D vwCl (mo cA m0 ad M) H → va_S (mF m0 ad) s.heap H locs → lv_has ls 11 [(0, .ref m0), (1, .int a1), (2, .int a2), (3, .int a3), (4, .int x4), (5, .int x5)] → w4_draws_l35 a1 a2 a3 Post n x4 x5 M → W p l e rX4_draws s m args below meth c H locs 0 0 Q (F0 m 35 ls []) := by
    intro n
    induction n with
    | zero => intro x4 x5 M H locs ls hP hS hl h; rw [w4_draws_l35] at h; exact h.elim
    | succ n ih =>
      intro x4 x5 M H locs ls hP hS hl h
      rw [w4_draws_l35] at h
      refine lv_iload hx hb dX4_draws_35 (lv_at hl 5 rfl) ?_
      refine lv_aload_n hx hb dX4_draws_37 rfl (lv_at hl 0 rfl) ?_
      refine mg_i S hK hP (k := 13) (by decide) (by decide) q1433 dX4_draws_38 ?_
      refine lv_icmp_ge (tgt := 79) hx hb dX4_draws_41 (by decide) (fun c_8 => ?_) (fun c_8 => ?_)
      · replace h := h.1 c_8
        refine lv_aload_n hx hb dX4_draws_79 rfl (lv_at hl 0 rfl) ?_
        refine lv_iload_n hx hb dX4_draws_80 rfl (lv_at hl 2 rfl) ?_
        refine lv_i2l hx hb dX4_draws_81 rfl ?_
        refine mp_l S hK hA hP hS (k := 65) (by decide) rfl rfl rfl q1485 dX4_draws_82 (fun M_9 H locs e_M_9 hP hS => ?_)
        replace h := h M_9 e_M_9
        refine lv_iconst hx hb dX4_draws_85 kc_0 ?_
        refine lv_istore (lv' := [(5, .int (0 : Int32)), (0, .ref m0), (1, .int a1), (2, .int a2), (3, .int a3), (4, .int x4)]) hx hb dX4_draws_86 hl (by decide) rfl (fun ls hl => ?_)
        refine lv_iconst hx hb dX4_draws_88 kc_0 ?_
        refine lv_istore (lv' := [(6, .int (0 : Int32)), (5, .int (0 : Int32)), (0, .ref m0), (1, .int a1), (2, .int a2), (3, .int a3), (4, .int x4)]) hx hb dX4_draws_89 hl (by decide) rfl (fun ls hl => ?_)
        obtain ⟨f, h⟩ := h
        exact L91 f _ _ _ _ _ _ _ hP hS (lv_sub hl [2, 3, 5, 6, 1, 0] rfl) h
      · replace h := h.2 c_8
        refine lv_iload hx hb dX4_draws_44 (lv_at hl 4 rfl) ?_
        refine lv_aload_n hx hb dX4_draws_46 rfl (lv_at hl 0 rfl) ?_
        refine lv_iload hx hb dX4_draws_47 (lv_at hl 5 rfl) ?_
        refine lv_iload_n hx hb dX4_draws_49 rfl (lv_at hl 1 rfl) ?_
        refine mc_i S hK hP hS (As := [.int x5, .int a1]) (rest := [.int x4]) (mt4_isFirstOf l hA x5 a1 M _ h) (cwV 2 S.2.2.2.2 (lw_V q2002 q2004 qs127 q145 q2005) rfl rfl rfl cdX4_isFirstOf ⟨Nat.le_of_ble_eq_true rfl, Nat.le_of_ble_eq_true rfl⟩) rfl rfl hl.1 (Nat.le_of_ble_eq_true rfl) dX4_draws_50 ⟨Nat.le_refl _, Nat.le_refl _⟩ (fun r_32 M_31 H locs h hP hS => ?_)
        refine lv_if_eq (tgt := 69) hx hb dX4_draws_53 (by decide) (fun c_33 => ?_) (fun c_33 => ?_)
        · replace h := h.1 c_33
          exact C69 _ ih _ _ _ _ _ _ hP hS (lv_sub hl [0, 1, 2, 3, 5] rfl) h
        · replace h := h.2 c_33
          refine lv_aload_n hx hb dX4_draws_56 rfl (lv_at hl 0 rfl) ?_
          refine lv_iload hx hb dX4_draws_57 (lv_at hl 5 rfl) ?_
          refine mc_i S hK hP hS (As := [.int x5]) (rest := [.int x4]) (mt4_isRight l hA x5 M_31 _ h) (cwV 1 S.2.2.2.2 (lw_V q1814 q1816 qs100 q145 q1817) rfl rfl rfl cdX4_isRight ⟨Nat.le_of_ble_eq_true rfl, Nat.le_of_ble_eq_true rfl⟩) rfl rfl hl.1 (Nat.le_of_ble_eq_true rfl) dX4_draws_59 ⟨Nat.le_refl _, Nat.le_refl _⟩ (fun r_37 M_36 H locs h hP hS => ?_)
          refine lv_if_eq (tgt := 69) hx hb dX4_draws_62 (by decide) (fun c_38 => ?_) (fun c_38 => ?_)
          · replace h := h.1 c_38
            exact C69 _ ih _ _ _ _ _ _ hP hS (lv_sub hl [0, 1, 2, 3, 5] rfl) h
          · replace h := h.2 c_38
            refine lv_iconst hx hb dX4_draws_65 kc_1 ?_
            refine lv_goto (tgt := 70) hx hb dX4_draws_66 (by decide) ?_
            exact C70 _ ih _ _ _ _ _ _ _ hP hS (lv_sub hl [0, 1, 2, 3, 5] rfl) h
  unfold w4_draws at h
  refine lv_aload_n hx hb dX4_draws_0 rfl (lv_at hl 0 rfl) ?_
  refine lv_iconst hx hb dX4_draws_1 kc_0 ?_
  refine mp_i S hK hA hP hS (k := 2) (by decide) (Or.inl rfl) rfl (Or.inl ⟨rfl, rfl⟩) q1422 dX4_draws_2 (fun M_1 H locs e_M_1 hP hS => ?_)
  replace h := h M_1 e_M_1
  refine lv_aload_n hx hb dX4_draws_5 rfl (lv_at hl 0 rfl) ?_
  refine lv_iload_n hx hb dX4_draws_6 rfl (lv_at hl 1 rfl) ?_
  refine mc_i S hK hP hS (As := [.int a1]) (rest := []) (mt4_isTeller l hA a1 M_1 _ h) (cwV 1 S.2.2.2.2 (lw_V q1771 q1773 qs95 q145 q1774) rfl rfl rfl cdX4_isTeller ⟨Nat.le_of_ble_eq_true rfl, Nat.le_of_ble_eq_true rfl⟩) rfl rfl hl.1 (Nat.le_of_ble_eq_true rfl) dX4_draws_7 ⟨Nat.le_refl _, Nat.le_refl _⟩ (fun r_3 M_2 H locs h hP hS => ?_)
  refine lv_if_eq (tgt := 27) hx hb dX4_draws_10 (by decide) (fun c_4 => ?_) (fun c_4 => ?_)
  · replace h := h.1 c_4
    refine lv_iconst hx hb dX4_draws_27 kc_m1 ?_
    exact hret _ _ _ _ _ _ hP hS h rfl dX4_draws_28
  · replace h := h.2 c_4
    refine lv_iload_n hx hb dX4_draws_13 rfl (lv_at hl 2 rfl) ?_
    refine lv_if_lt (tgt := 27) hx hb dX4_draws_14 (by decide) (fun c_5 => ?_) (fun c_5 => ?_)
    · replace h := h.1 c_5
      refine lv_iconst hx hb dX4_draws_27 kc_m1 ?_
      exact hret _ _ _ _ _ _ hP hS h rfl dX4_draws_28
    · replace h := h.2 c_5
      refine lv_iload_n hx hb dX4_draws_17 rfl (lv_at hl 3 rfl) ?_
      refine lv_iconst hx hb dX4_draws_18 kc_1 ?_
      refine lv_bipush hx hb dX4_draws_19 kb_99 ?_
      refine sc_i S (As := [.int a3, .int (1 : Int32), .int (99 : Int32)]) (rest := []) (mt4_isIn l a3 (1 : Int32) (99 : Int32) _ h) (va_cwS 3 S.2.2.2.2 (lw_S q1795 q1796 q145 q1797) rfl rfl rfl cdX4_isIn ⟨Nat.le_of_ble_eq_true rfl, Nat.le_of_ble_eq_true rfl⟩) rfl rfl hl.1 (Nat.le_of_ble_eq_true rfl) dX4_draws_21 ⟨Nat.le_refl _, Nat.le_refl _⟩ (fun r_6 h => ?_)
      refine lv_if_ne (tgt := 29) hx hb dX4_draws_24 (by decide) (fun c_7 => ?_) (fun c_7 => ?_)
      · replace h := h.2 c_7
        refine lv_iconst hx hb dX4_draws_29 kc_0 ?_
        refine lv_istore (lv' := [(4, .int (0 : Int32)), (0, .ref m0), (1, .int a1), (2, .int a2), (3, .int a3)]) hx hb dX4_draws_30 hl (by decide) rfl (fun ls hl => ?_)
        refine lv_iconst hx hb dX4_draws_32 kc_0 ?_
        refine lv_istore (lv' := [(5, .int (0 : Int32)), (4, .int (0 : Int32)), (0, .ref m0), (1, .int a1), (2, .int a2), (3, .int a3)]) hx hb dX4_draws_33 hl (by decide) rfl (fun ls hl => ?_)
        obtain ⟨f, h⟩ := h
        exact L35 f _ _ _ _ _ _ hP hS (lv_sub hl [2, 3, 4, 5, 1, 0] rfl) h
      · replace h := h.1 c_7
        refine lv_iconst hx hb dX4_draws_27 kc_m1 ?_
        exact hret _ _ _ _ _ _ hP hS h rfl dX4_draws_28
def w4_isIn1 (a1 : Int32) (a2 : Int32) (a3 : Int32) (M : MS) (Post : Int32 → MS → Prop) : Prop := w4_isHeard a1 M (fun r_2 M_1 => (r_2 = 0 → (Post (0 : Int32) M_1)) ∧ (¬ (r_2 = 0) → ((vp_in a1 (mN 32) ∧ ((ma M_1 32 (Int32.toNatClampNeg a1)) = a2 → ((a3 = 0 → (Post (1 : Int32) M_1)) ∧ (¬ (a3 = 0) → (w4_isTaped a1 M_1 (fun r_7 M_6 => (r_7 = 0 → (Post (0 : Int32) M_6)) ∧ (¬ (r_7 = 0) → (Post (1 : Int32) M_6))))))) ∧ (¬ ((ma M_1 32 (Int32.toNatClampNeg a1)) = a2) → (Post (0 : Int32) M_1))))))
abbrev rX4_isIn1 : Room := { frames := 1, cells := 0, slots := 0, locals := 21 }
theorem cdX4_isIn1 : yX4_isIn1.cls = RX4 ∧ yX4_isIn1.cls ≠ "java/lang/invoke/MethodHandle" ∧ yX4_isIn1.cls ≠ "java/lang/invoke/VarHandle" ∧ (parseMethodDescriptor yX4_isIn1.desc).map (fun d => d.parameters.length) = some 3 := by decide +kernel
set_option maxHeartbeats 4000000 in
set_option maxRecDepth 100000 in
theorem mt4_isIn1 (l : Launch) {D : va_G} {cA : Nat → ClassId} {m0 : Nat} {ad : Nat → Nat} (hA : mAd m0 ad) (a1 : Int32) (a2 : Int32) (a3 : Int32) (M : MS) (Post : Int32 → MS → Prop) (h : w4_isIn1 a1 a2 a3 M Post) : Met l yX4_isIn1 (ws_ yX4_isIn1 cX4_isIn1 4 (some .boolean)) rX4_isIn1 (mPc [.ref m0, .int a1, .int a2, .int a3] D cA m0 ad M) (va_Qi Post (mB D cA m0 ad) (mF m0 ad)) 0 0 (mF m0 ad) := by
  refine mst_i (own := RX4) (by decide) rfl (Nat.le_of_ble_eq_true rfl) ?_
  intro p e s m args below meth c Q ls S hK hP hS hl hret
  have hx := S.1
  have hb := S.2.1
  have hl : lv_has ls 4 [(0, .ref m0), (1, .int a1), (2, .int a2), (3, .int a3)] := hl
  unfold w4_isIn1 at h
  refine lv_aload_n hx hb dX4_isIn1_0 rfl (lv_at hl 0 rfl) ?_
  refine lv_iload_n hx hb dX4_isIn1_1 rfl (lv_at hl 1 rfl) ?_
  refine mc_i S hK hP hS (As := [.int a1]) (rest := []) (mt4_isHeard l hA a1 M _ h) (cwV 1 S.2.2.2.2 (lw_V q1779 q1781 qs96 q145 q1782) rfl rfl rfl cdX4_isHeard ⟨Nat.le_of_ble_eq_true rfl, Nat.le_of_ble_eq_true rfl⟩) rfl rfl hl.1 (Nat.le_of_ble_eq_true rfl) dX4_isIn1_2 ⟨Nat.le_refl _, Nat.le_refl _⟩ (fun r_2 M_1 H locs h hP hS => ?_)
  refine lv_if_eq (tgt := 34) hx hb dX4_isIn1_5 (by decide) (fun c_3 => ?_) (fun c_3 => ?_)
  · replace h := h.1 c_3
    refine lv_iconst hx hb dX4_isIn1_34 kc_0 ?_
    exact hret _ _ _ _ _ _ hP hS h (vz_nar vz_0) dX4_isIn1_35
  · replace h := h.2 c_3
    refine lv_aload_n hx hb dX4_isIn1_8 rfl (lv_at hl 0 rfl) ?_
    refine mg_r S hK hP (k := 32) (by decide) (by decide) q1452 dX4_isIn1_9 ?_
    refine lv_iload_n hx hb dX4_isIn1_12 rfl (lv_at hl 1 rfl) ?_
    obtain ⟨hi, h⟩ := h
    refine ml_a S hK hP (k := 32) af_32 rfl hi dX4_isIn1_13 ?_
    refine lv_iload_n hx hb dX4_isIn1_14 rfl (lv_at hl 2 rfl) ?_
    refine lv_icmp_ne (tgt := 34) hx hb dX4_isIn1_15 (by decide) (fun c_4 => ?_) (fun c_4 => ?_)
    · replace h := h.2 c_4
      refine lv_iconst hx hb dX4_isIn1_34 kc_0 ?_
      exact hret _ _ _ _ _ _ hP hS h (vz_nar vz_0) dX4_isIn1_35
    · replace h := h.1 c_4
      refine lv_iload_n hx hb dX4_isIn1_18 rfl (lv_at hl 3 rfl) ?_
      refine lv_if_eq (tgt := 30) hx hb dX4_isIn1_19 (by decide) (fun c_5 => ?_) (fun c_5 => ?_)
      · replace h := h.1 c_5
        refine lv_iconst hx hb dX4_isIn1_30 kc_1 ?_
        refine lv_goto (tgt := 35) hx hb dX4_isIn1_31 (by decide) ?_
        exact hret _ _ _ _ _ _ hP hS h (vz_nar vz_1) dX4_isIn1_35
      · replace h := h.2 c_5
        refine lv_aload_n hx hb dX4_isIn1_22 rfl (lv_at hl 0 rfl) ?_
        refine lv_iload_n hx hb dX4_isIn1_23 rfl (lv_at hl 1 rfl) ?_
        refine mc_i S hK hP hS (As := [.int a1]) (rest := []) (mt4_isTaped l hA a1 M_1 _ h) (cwV 1 S.2.2.2.2 (lw_V q1948 q1950 qs117 q145 q1951) rfl rfl rfl cdX4_isTaped ⟨Nat.le_of_ble_eq_true rfl, Nat.le_of_ble_eq_true rfl⟩) rfl rfl hl.1 (Nat.le_of_ble_eq_true rfl) dX4_isIn1_24 ⟨Nat.le_refl _, Nat.le_refl _⟩ (fun r_7 M_6 H locs h hP hS => ?_)
        refine lv_if_eq (tgt := 34) hx hb dX4_isIn1_27 (by decide) (fun c_8 => ?_) (fun c_8 => ?_)
        · replace h := h.1 c_8
          refine lv_iconst hx hb dX4_isIn1_34 kc_0 ?_
          exact hret _ _ _ _ _ _ hP hS h (vz_nar vz_0) dX4_isIn1_35
        · replace h := h.2 c_8
          refine lv_iconst hx hb dX4_isIn1_30 kc_1 ?_
          refine lv_goto (tgt := 35) hx hb dX4_isIn1_31 (by decide) ?_
          exact hret _ _ _ _ _ _ hP hS h (vz_nar vz_1) dX4_isIn1_35
def w4_isFirstIn_c48 (a1 : Int32) (a2 : Int32) (a3 : Int32) (k3 : Int32 → MS → Prop) (Post : Int32 → MS → Prop) (x4 : Int32) (M : MS) : Prop := ∀ v_5 : Int32, v_5 = x4 + (1 : Int32) → k3 v_5 M
def w4_isFirstIn_l3 (a1 : Int32) (a2 : Int32) (a3 : Int32) (Post : Int32 → MS → Prop) : Nat → Int32 → MS → Prop
  | 0, _, _ => False
  | n + 1, x4, M => (a1 ≤ x4 → (Post (1 : Int32) M)) ∧ (¬ (a1 ≤ x4) → (w4_isIn1 x4 a2 a3 M (fun r_3 M_2 => (r_3 = 0 → (w4_isFirstIn_c48 a1 a2 a3 (w4_isFirstIn_l3 a1 a2 a3 Post n) Post x4 M_2)) ∧ (¬ (r_3 = 0) → ((vp_in x4 (mN 31) ∧ ((ma M_2 31 (Int32.toNatClampNeg x4)) = 0 → (w4_isFirstIn_c48 a1 a2 a3 (w4_isFirstIn_l3 a1 a2 a3 Post n) Post x4 M_2)) ∧ (¬ ((ma M_2 31 (Int32.toNatClampNeg x4)) = 0) → ((vp_in x4 (mN 34) ∧ (vp_in a1 (mN 34) ∧ ((ma M_2 34 (Int32.toNatClampNeg x4)) = (ma M_2 34 (Int32.toNatClampNeg a1)) → (Post (0 : Int32) M_2)) ∧ (¬ ((ma M_2 34 (Int32.toNatClampNeg x4)) = (ma M_2 34 (Int32.toNatClampNeg a1))) → (w4_isFirstIn_c48 a1 a2 a3 (w4_isFirstIn_l3 a1 a2 a3 Post n) Post x4 M_2))))))))))))
def w4_isFirstIn (a1 : Int32) (a2 : Int32) (a3 : Int32) (M : MS) (Post : Int32 → MS → Prop) : Prop := ∃ f, w4_isFirstIn_l3 a1 a2 a3 Post f (0 : Int32) M
abbrev rX4_isFirstIn : Room := { frames := 2, cells := 0, slots := 0, locals := 44 }
theorem cdX4_isFirstIn : yX4_isFirstIn.cls = RX4 ∧ yX4_isFirstIn.cls ≠ "java/lang/invoke/MethodHandle" ∧ yX4_isFirstIn.cls ≠ "java/lang/invoke/VarHandle" ∧ (parseMethodDescriptor yX4_isFirstIn.desc).map (fun d => d.parameters.length) = some 3 := by decide +kernel
set_option maxHeartbeats 4000000 in
set_option maxRecDepth 100000 in
theorem mt4_isFirstIn (l : Launch) {D : va_G} {cA : Nat → ClassId} {m0 : Nat} {ad : Nat → Nat} (hA : mAd m0 ad) (a1 : Int32) (a2 : Int32) (a3 : Int32) (M : MS) (Post : Int32 → MS → Prop) (h : w4_isFirstIn a1 a2 a3 M Post) : Met l yX4_isFirstIn (ws_ yX4_isFirstIn cX4_isFirstIn 5 (some .boolean)) rX4_isFirstIn (mPc [.ref m0, .int a1, .int a2, .int a3] D cA m0 ad M) (va_Qi Post (mB D cA m0 ad) (mF m0 ad)) 0 0 (mF m0 ad) := by
  refine mst_i (own := RX4) (by decide) rfl (Nat.le_of_ble_eq_true rfl) ?_
  intro p e s m args below meth c Q ls S hK hP hS hl hret
  have hx := S.1
  have hb := S.2.1
  have hl : lv_has ls 5 [(0, .ref m0), (1, .int a1), (2, .int a2), (3, .int a3)] := hl
  have C48 : ∀ (k3 : Int32 → MS → Prop) (K3 : (∀ (x4 : Int32) (M : MS) (H : Heap) (locs : List Loc) (ls : Array Slot), va_P D vwCl (mo cA m0 ad M) H → va_S (mF m0 ad) s.heap H locs → lv_has ls 5 [(0, .ref m0), (1, .int a1), (2, .int a2), (3, .int a3), (4, .int x4)] → k3 x4 M → W p l e rX4_isFirstIn s m args below meth c H locs 0 0 Q (F0 m 3 ls []))), ∀ (x4 : Int32) (M : MS) (H : Heap) (locs : List Loc) (ls : Array Slot), va_P D vwCl (mo cA m0 ad M) H → va_S (mF m0 ad) s.heap H locs → lv_has ls 5 [(0, .ref m0), (1, .int a1), (2, .int a2), (3, .int a3), (4, .int x4)] → w4_isFirstIn_c48 a1 a2 a3 k3 Post x4 M → W p l e rX4_isFirstIn s m args below meth c H locs 0 0 Q (F0 m 48 ls []) := by
    intro k3 K3
    intro x4 M H locs ls hP hS hl h
    unfold w4_isFirstIn_c48 at h
    obtain ⟨v_5, e_v_5⟩ : ∃ y : Int32, y = x4 + (1 : Int32) := ⟨_, rfl⟩
    replace h := h v_5 e_v_5
    refine lv_iinc (v := v_5) (lv' := [(4, .int v_5), (0, .ref m0), (1, .int a1), (2, .int a2), (3, .int a3)]) hx hb dX4_isFirstIn_48 hl (k := 4) rfl (by rw [kc_1, e_v_5]) (by decide) rfl (fun ls hl => ?_)
    refine lv_goto (tgt := 3) hx hb dX4_isFirstIn_51 (by decide) ?_
    exact K3 _ _ _ _ _ hP hS (lv_sub hl [1, 2, 3, 4, 0] rfl) h
  have L3 : ∀ (n : Nat) (x4 : Int32) (M : MS) (H : Heap) (locs : List Loc) (ls : Array Slot), va_P D vwCl (mo cA m0 ad M) H → va_S (mF m0 ad) s.heap H locs → lv_has ls 5 [(0, .ref m0), (1, .int a1), (2, .int a2), (3, .int a3), (4, .int x4)] → w4_isFirstIn_l3 a1 a2 a3 Post n x4 M → W p l e rX4_isFirstIn s m args below meth c H locs 0 0 Q (F0 m 3 ls []) := by
    intro n
    induction n with
    | zero => intro x4 M H locs ls hP hS hl h; rw [w4_isFirstIn_l3] at h; exact h.elim
    | succ n ih =>
      intro x4 M H locs ls hP hS hl h
      rw [w4_isFirstIn_l3] at h
      refine lv_iload hx hb dX4_isFirstIn_3 (lv_at hl 4 rfl) ?_
      refine lv_iload_n hx hb dX4_isFirstIn_5 rfl (lv_at hl 1 rfl) ?_
      refine lv_icmp_ge (tgt := 54) hx hb dX4_isFirstIn_6 (by decide) (fun c_1 => ?_) (fun c_1 => ?_)
      · replace h := h.1 c_1
        refine lv_iconst hx hb dX4_isFirstIn_54 kc_1 ?_
        exact hret _ _ _ _ _ _ hP hS h (vz_nar vz_1) dX4_isFirstIn_55
      · replace h := h.2 c_1
        refine lv_aload_n hx hb dX4_isFirstIn_9 rfl (lv_at hl 0 rfl) ?_
        refine lv_iload hx hb dX4_isFirstIn_10 (lv_at hl 4 rfl) ?_
        refine lv_iload_n hx hb dX4_isFirstIn_12 rfl (lv_at hl 2 rfl) ?_
        refine lv_iload_n hx hb dX4_isFirstIn_13 rfl (lv_at hl 3 rfl) ?_
        refine mc_i S hK hP hS (As := [.int x4, .int a2, .int a3]) (rest := []) (mt4_isIn1 l hA x4 a2 a3 M _ h) (cwV 3 S.2.2.2.2 (lw_V q2034 q2036 qs133 q145 q2037) rfl rfl rfl cdX4_isIn1 ⟨Nat.le_of_ble_eq_true rfl, Nat.le_of_ble_eq_true rfl⟩) rfl rfl hl.1 (Nat.le_of_ble_eq_true rfl) dX4_isFirstIn_14 ⟨Nat.le_refl _, Nat.le_refl _⟩ (fun r_3 M_2 H locs h hP hS => ?_)
        refine lv_if_eq (tgt := 48) hx hb dX4_isFirstIn_17 (by decide) (fun c_4 => ?_) (fun c_4 => ?_)
        · replace h := h.1 c_4
          exact C48 _ ih _ _ _ _ _ hP hS (lv_sub hl [0, 1, 2, 3, 4] rfl) h
        · replace h := h.2 c_4
          refine lv_aload_n hx hb dX4_isFirstIn_20 rfl (lv_at hl 0 rfl) ?_
          refine mg_r S hK hP (k := 31) (by decide) (by decide) q1451 dX4_isFirstIn_21 ?_
          refine lv_iload hx hb dX4_isFirstIn_24 (lv_at hl 4 rfl) ?_
          obtain ⟨hi, h⟩ := h
          refine ml_z S hK hP (k := 31) af_31 rfl hi dX4_isFirstIn_26 ?_
          refine lv_if_eq (tgt := 48) hx hb dX4_isFirstIn_27 (by decide) (fun c_6 => ?_) (fun c_6 => ?_)
          · replace h := h.1 c_6
            exact C48 _ ih _ _ _ _ _ hP hS (lv_sub hl [0, 1, 2, 3, 4] rfl) h
          · replace h := h.2 c_6
            refine lv_aload_n hx hb dX4_isFirstIn_30 rfl (lv_at hl 0 rfl) ?_
            refine mg_r S hK hP (k := 34) (by decide) (by decide) q1454 dX4_isFirstIn_31 ?_
            refine lv_iload hx hb dX4_isFirstIn_34 (lv_at hl 4 rfl) ?_
            obtain ⟨hi, h⟩ := h
            refine ml_a S hK hP (k := 34) af_34 rfl hi dX4_isFirstIn_36 ?_
            refine lv_aload_n hx hb dX4_isFirstIn_37 rfl (lv_at hl 0 rfl) ?_
            refine mg_r S hK hP (k := 34) (by decide) (by decide) q1454 dX4_isFirstIn_38 ?_
            refine lv_iload_n hx hb dX4_isFirstIn_41 rfl (lv_at hl 1 rfl) ?_
            obtain ⟨hi, h⟩ := h
            refine ml_a S hK hP (k := 34) af_34 rfl hi dX4_isFirstIn_42 ?_
            refine lv_icmp_ne (tgt := 48) hx hb dX4_isFirstIn_43 (by decide) (fun c_7 => ?_) (fun c_7 => ?_)
            · replace h := h.2 c_7
              exact C48 _ ih _ _ _ _ _ hP hS (lv_sub hl [0, 1, 2, 3, 4] rfl) h
            · replace h := h.1 c_7
              refine lv_iconst hx hb dX4_isFirstIn_46 kc_0 ?_
              exact hret _ _ _ _ _ _ hP hS h (vz_nar vz_0) dX4_isFirstIn_47
  unfold w4_isFirstIn at h
  refine lv_iconst hx hb dX4_isFirstIn_0 kc_0 ?_
  refine lv_istore (lv' := [(4, .int (0 : Int32)), (0, .ref m0), (1, .int a1), (2, .int a2), (3, .int a3)]) hx hb dX4_isFirstIn_1 hl (by decide) rfl (fun ls hl => ?_)
  obtain ⟨f, h⟩ := h
  exact L3 f _ _ _ _ _ hP hS (lv_sub hl [1, 2, 3, 4, 0] rfl) h
def w4_namesByTalk_c132 (a1 : Int32) (a2 : Int32) (k7 : Int32 → MS → Prop) (Post : MS → Prop) (x3 : Int32) (M : MS) : Prop := ∀ v_10 : Int32, v_10 = x3 + (1 : Int32) → k7 v_10 M
def w4_namesByTalk_c130 (a1 : Int32) (a2 : Int32) (k7 : Int32 → MS → Prop) (Post : MS → Prop) (x3 : Int32) (t0 : Int64) (t1 : Int64) (t2 : Int32) (M : MS) : Prop := (vp_in t2 (mN 62) ∧ ∀ M_18 : MS, M_18 = sb M 62 (Int32.toNatClampNeg t2) (t1 + t0) → w4_namesByTalk_c132 a1 a2 k7 Post x3 M_18)
def w4_namesByTalk_c101 (a1 : Int32) (a2 : Int32) (k7 : Int32 → MS → Prop) (Post : MS → Prop) (x3 : Int32) (t0 : Int32) (M : MS) : Prop := (vp_in t0 (mN 62) ∧ (vp_in t0 (mN 62) ∧ ∀ M_14 : MS, M_14 = sb M 62 (Int32.toNatClampNeg t0) ((mb M 62 (Int32.toNatClampNeg t0)) + (1 : Int64)) → (vp_in (7 : Int32) (mN 62) ∧ w4_whatIs x3 M_14 (fun r_16 M_15 => ((r_16 &&& (32 : Int32)) = 0 → (w4_namesByTalk_c130 a1 a2 k7 Post x3 (0 : Int64) (mb M_14 62 (Int32.toNatClampNeg (7 : Int32))) (7 : Int32) M_15)) ∧ (¬ ((r_16 &&& (32 : Int32)) = 0) → (w4_namesByTalk_c130 a1 a2 k7 Post x3 (1 : Int64) (mb M_14 62 (Int32.toNatClampNeg (7 : Int32))) (7 : Int32) M_15))))))
def w4_namesByTalk_c68 (a1 : Int32) (a2 : Int32) (k7 : Int32 → MS → Prop) (Post : MS → Prop) (x3 : Int32) (t0 : Int64) (t1 : Int64) (t2 : Int32) (M : MS) : Prop := (vp_in t2 (mN 62) ∧ ∀ M_21 : MS, M_21 = sb M 62 (Int32.toNatClampNeg t2) (t1 + t0) → w4_namesByTalk_c132 a1 a2 k7 Post x3 M_21)
def w4_namesByTalk_l7 (a1 : Int32) (a2 : Int32) (Post : MS → Prop) : Nat → Int32 → MS → Prop
  | 0, _, _ => False
  | n + 1, x3, M => ((mi M 13) ≤ x3 → (Post M)) ∧ (¬ ((mi M 13) ≤ x3) → (w4_isIn1 x3 a1 a2 M (fun r_4 M_3 => (r_4 = 0 → (w4_namesByTalk_c132 a1 a2 (w4_namesByTalk_l7 a1 a2 Post n) Post x3 M_3)) ∧ (¬ (r_4 = 0) → ((vp_in x3 (mN 31) ∧ ((ma M_3 31 (Int32.toNatClampNeg x3)) = 0 → ((vp_in (3 : Int32) (mN 62) ∧ (vp_in (3 : Int32) (mN 62) ∧ ∀ M_19 : MS, M_19 = sb M_3 62 (Int32.toNatClampNeg (3 : Int32)) ((mb M_3 62 (Int32.toNatClampNeg (3 : Int32))) + (1 : Int64)) → (vp_in (4 : Int32) (mN 62) ∧ (vp_in x3 (mN 35) ∧ ((ma M_19 35 (Int32.toNatClampNeg x3)) < 0 → (w4_namesByTalk_c68 a1 a2 (w4_namesByTalk_l7 a1 a2 Post n) Post x3 (0 : Int64) (mb M_19 62 (Int32.toNatClampNeg (4 : Int32))) (4 : Int32) M_19)) ∧ (¬ ((ma M_19 35 (Int32.toNatClampNeg x3)) < 0) → (w4_namesByTalk_c68 a1 a2 (w4_namesByTalk_l7 a1 a2 Post n) Post x3 (1 : Int64) (mb M_19 62 (Int32.toNatClampNeg (4 : Int32))) (4 : Int32) M_19)))))))) ∧ (¬ ((ma M_3 31 (Int32.toNatClampNeg x3)) = 0) → (w4_isFirstIn x3 a1 a2 M_3 (fun r_8 M_7 => (r_8 = 0 → (w4_namesByTalk_c132 a1 a2 (w4_namesByTalk_l7 a1 a2 Post n) Post x3 M_7)) ∧ (¬ (r_8 = 0) → (w4_isRight x3 M_7 (fun r_12 M_11 => (r_12 = 0 → (w4_namesByTalk_c101 a1 a2 (w4_namesByTalk_l7 a1 a2 Post n) Post x3 (6 : Int32) M_11)) ∧ (¬ (r_12 = 0) → (w4_namesByTalk_c101 a1 a2 (w4_namesByTalk_l7 a1 a2 Post n) Post x3 (5 : Int32) M_11))))))))))))))
def w4_namesByTalk (a1 : Int32) (a2 : Int32) (M : MS) (Post : MS → Prop) : Prop := w4_noNames a1 M (fun M_1 => ∃ f, w4_namesByTalk_l7 a1 a2 Post f (0 : Int32) M_1)
abbrev rX4_namesByTalk : Room := { frames := 5, cells := 0, slots := 0, locals := 117 }
theorem cdX4_namesByTalk : yX4_namesByTalk.cls = RX4 ∧ yX4_namesByTalk.cls ≠ "java/lang/invoke/MethodHandle" ∧ yX4_namesByTalk.cls ≠ "java/lang/invoke/VarHandle" ∧ (parseMethodDescriptor yX4_namesByTalk.desc).map (fun d => d.parameters.length) = some 2 := by decide +kernel
set_option maxHeartbeats 4000000 in
set_option maxRecDepth 100000 in
theorem mt4_namesByTalk (l : Launch) {D : va_G} {cA : Nat → ClassId} {m0 : Nat} {ad : Nat → Nat} (hA : mAd m0 ad) (a1 : Int32) (a2 : Int32) (M : MS) (Post : MS → Prop) (h : w4_namesByTalk a1 a2 M Post) : Met l yX4_namesByTalk (ws_ yX4_namesByTalk cX4_namesByTalk 4 none) rX4_namesByTalk (mPc [.ref m0, .int a1, .int a2] D cA m0 ad M) (va_Qv Post (mB D cA m0 ad) (mF m0 ad)) 0 0 (mF m0 ad) := by
  refine mst_v (own := RX4) (by decide) rfl (Nat.le_of_ble_eq_true rfl) ?_
  intro p e s m args below meth c Q ls S hK hP hS hl hret
  have hx := S.1
  have hb := S.2.1
  have hl : lv_has ls 4 [(0, .ref m0), (1, .int a1), (2, .int a2)] := hl
  have C132 : ∀ (k7 : Int32 → MS → Prop) (K7 : (∀ (x3 : Int32) (M : MS) (H : Heap) (locs : List Loc) (ls : Array Slot), va_P D vwCl (mo cA m0 ad M) H → va_S (mF m0 ad) s.heap H locs → lv_has ls 4 [(0, .ref m0), (1, .int a1), (2, .int a2), (3, .int x3)] → k7 x3 M → W p l e rX4_namesByTalk s m args below meth c H locs 0 0 Q (F0 m 7 ls []))), ∀ (x3 : Int32) (M : MS) (H : Heap) (locs : List Loc) (ls : Array Slot), va_P D vwCl (mo cA m0 ad M) H → va_S (mF m0 ad) s.heap H locs → lv_has ls 4 [(0, .ref m0), (1, .int a1), (2, .int a2), (3, .int x3)] → w4_namesByTalk_c132 a1 a2 k7 Post x3 M → W p l e rX4_namesByTalk s m args below meth c H locs 0 0 Q (F0 m 132 ls []) := by
    intro k7 K7
    intro x3 M H locs ls hP hS hl h
    unfold w4_namesByTalk_c132 at h
    obtain ⟨v_10, e_v_10⟩ : ∃ y : Int32, y = x3 + (1 : Int32) := ⟨_, rfl⟩
    replace h := h v_10 e_v_10
    refine lv_iinc (v := v_10) (lv' := [(3, .int v_10), (0, .ref m0), (1, .int a1), (2, .int a2)]) hx hb dX4_namesByTalk_132 hl (k := 3) rfl (by rw [kc_1, e_v_10]) (by decide) rfl (fun ls hl => ?_)
    refine lv_goto (tgt := 7) hx hb dX4_namesByTalk_135 (by decide) ?_
    exact K7 _ _ _ _ _ hP hS (lv_sub hl [1, 2, 3, 0] rfl) h
  have C130 : ∀ (k7 : Int32 → MS → Prop) (K7 : (∀ (x3 : Int32) (M : MS) (H : Heap) (locs : List Loc) (ls : Array Slot), va_P D vwCl (mo cA m0 ad M) H → va_S (mF m0 ad) s.heap H locs → lv_has ls 4 [(0, .ref m0), (1, .int a1), (2, .int a2), (3, .int x3)] → k7 x3 M → W p l e rX4_namesByTalk s m args below meth c H locs 0 0 Q (F0 m 7 ls []))), ∀ (x3 : Int32) (t0 : Int64) (t1 : Int64) (t2 : Int32) (M : MS) (H : Heap) (locs : List Loc) (ls : Array Slot), va_P D vwCl (mo cA m0 ad M) H → va_S (mF m0 ad) s.heap H locs → lv_has ls 4 [(0, .ref m0), (1, .int a1), (2, .int a2), (3, .int x3)] → w4_namesByTalk_c130 a1 a2 k7 Post x3 t0 t1 t2 M → W p l e rX4_namesByTalk s m args below meth c H locs 0 0 Q (F0 m 130 ls [.long t0, .long t1, .int t2, .ref (ad 62)]) := by
    intro k7 K7
    intro x3 t0 t1 t2 M H locs ls hP hS hl h
    unfold w4_namesByTalk_c130 at h
    refine lv_ladd hx hb dX4_namesByTalk_130 ?_
    obtain ⟨hi, h⟩ := h
    refine ms_b S hK hA hP hS (k := 62) af_62 rfl hi dX4_namesByTalk_131 (fun M_18 H locs e_M_18 hP hS => ?_)
    replace h := h M_18 e_M_18
    exact C132 _ K7 _ _ _ _ _ hP hS (lv_sub hl [0, 1, 2, 3] rfl) h
  have C101 : ∀ (k7 : Int32 → MS → Prop) (K7 : (∀ (x3 : Int32) (M : MS) (H : Heap) (locs : List Loc) (ls : Array Slot), va_P D vwCl (mo cA m0 ad M) H → va_S (mF m0 ad) s.heap H locs → lv_has ls 4 [(0, .ref m0), (1, .int a1), (2, .int a2), (3, .int x3)] → k7 x3 M → W p l e rX4_namesByTalk s m args below meth c H locs 0 0 Q (F0 m 7 ls []))), ∀ (x3 : Int32) (t0 : Int32) (M : MS) (H : Heap) (locs : List Loc) (ls : Array Slot), va_P D vwCl (mo cA m0 ad M) H → va_S (mF m0 ad) s.heap H locs → lv_has ls 4 [(0, .ref m0), (1, .int a1), (2, .int a2), (3, .int x3)] → w4_namesByTalk_c101 a1 a2 k7 Post x3 t0 M → W p l e rX4_namesByTalk s m args below meth c H locs 0 0 Q (F0 m 101 ls [.int t0, .ref (ad 62)]) := by
    intro k7 K7
    intro x3 t0 M H locs ls hP hS hl h
    unfold w4_namesByTalk_c101 at h
    refine lv_dup2_11 hx hb dX4_namesByTalk_101 rfl rfl ?_
    obtain ⟨hi, h⟩ := h
    refine ml_b S hK hP (k := 62) af_62 rfl hi dX4_namesByTalk_102 ?_
    refine lv_lconst (v := 1) hx hb dX4_namesByTalk_103 rfl ?_
    refine lv_ladd hx hb dX4_namesByTalk_104 ?_
    obtain ⟨hi, h⟩ := h
    refine ms_b S hK hA hP hS (k := 62) af_62 rfl hi dX4_namesByTalk_105 (fun M_14 H locs e_M_14 hP hS => ?_)
    replace h := h M_14 e_M_14
    refine lv_aload_n hx hb dX4_namesByTalk_106 rfl (lv_at hl 0 rfl) ?_
    refine mg_r S hK hP (k := 62) (by decide) (by decide) q1482 dX4_namesByTalk_107 ?_
    refine lv_bipush hx hb dX4_namesByTalk_110 kb_7 ?_
    refine lv_dup2_11 hx hb dX4_namesByTalk_112 rfl rfl ?_
    obtain ⟨hi, h⟩ := h
    refine ml_b S hK hP (k := 62) af_62 rfl hi dX4_namesByTalk_113 ?_
    refine lv_aload_n hx hb dX4_namesByTalk_114 rfl (lv_at hl 0 rfl) ?_
    refine lv_iload_n hx hb dX4_namesByTalk_115 rfl (lv_at hl 3 rfl) ?_
    refine mc_i S hK hP hS (As := [.int x3]) (rest := [.long (mb M_14 62 (Int32.toNatClampNeg (7 : Int32))), .int (7 : Int32), .ref (ad 62)]) (mt4_whatIs l hA x3 M_14 _ h) (cwV 1 S.2.2.2.2 (lw_V q1810 q1812 qs99 q145 q1813) rfl rfl rfl cdX4_whatIs ⟨Nat.le_of_ble_eq_true rfl, Nat.le_of_ble_eq_true rfl⟩) rfl rfl hl.1 (Nat.le_of_ble_eq_true rfl) dX4_namesByTalk_116 ⟨Nat.le_refl _, Nat.le_refl _⟩ (fun r_16 M_15 H locs h hP hS => ?_)
    refine lv_bipush hx hb dX4_namesByTalk_119 kb_32 ?_
    refine lv_iand hx hb dX4_namesByTalk_121 ?_
    refine lv_if_eq (tgt := 129) hx hb dX4_namesByTalk_122 (by decide) (fun c_17 => ?_) (fun c_17 => ?_)
    · replace h := h.1 c_17
      refine lv_lconst (v := 0) hx hb dX4_namesByTalk_129 rfl ?_
      exact C130 _ K7 _ _ _ _ _ _ _ _ hP hS (lv_sub hl [0, 1, 2, 3] rfl) h
    · replace h := h.2 c_17
      refine lv_lconst (v := 1) hx hb dX4_namesByTalk_125 rfl ?_
      refine lv_goto (tgt := 130) hx hb dX4_namesByTalk_126 (by decide) ?_
      exact C130 _ K7 _ _ _ _ _ _ _ _ hP hS (lv_sub hl [0, 1, 2, 3] rfl) h
  have C68 : ∀ (k7 : Int32 → MS → Prop) (K7 : (∀ (x3 : Int32) (M : MS) (H : Heap) (locs : List Loc) (ls : Array Slot), va_P D vwCl (mo cA m0 ad M) H → va_S (mF m0 ad) s.heap H locs → lv_has ls 4 [(0, .ref m0), (1, .int a1), (2, .int a2), (3, .int x3)] → k7 x3 M → W p l e rX4_namesByTalk s m args below meth c H locs 0 0 Q (F0 m 7 ls []))), ∀ (x3 : Int32) (t0 : Int64) (t1 : Int64) (t2 : Int32) (M : MS) (H : Heap) (locs : List Loc) (ls : Array Slot), va_P D vwCl (mo cA m0 ad M) H → va_S (mF m0 ad) s.heap H locs → lv_has ls 4 [(0, .ref m0), (1, .int a1), (2, .int a2), (3, .int x3)] → w4_namesByTalk_c68 a1 a2 k7 Post x3 t0 t1 t2 M → W p l e rX4_namesByTalk s m args below meth c H locs 0 0 Q (F0 m 68 ls [.long t0, .long t1, .int t2, .ref (ad 62)]) := by
    intro k7 K7
    intro x3 t0 t1 t2 M H locs ls hP hS hl h
    unfold w4_namesByTalk_c68 at h
    refine lv_ladd hx hb dX4_namesByTalk_68 ?_
    obtain ⟨hi, h⟩ := h
    refine ms_b S hK hA hP hS (k := 62) af_62 rfl hi dX4_namesByTalk_69 (fun M_21 H locs e_M_21 hP hS => ?_)
    replace h := h M_21 e_M_21
    refine lv_goto (tgt := 132) hx hb dX4_namesByTalk_70 (by decide) ?_
    exact C132 _ K7 _ _ _ _ _ hP hS (lv_sub hl [0, 1, 2, 3] rfl) h
  have L7 : ∀ (n : Nat) (x3 : Int32) (M : MS) (H : Heap) (locs : List Loc) (ls : Array Slot), va_P D vwCl (mo cA m0 ad M) H → va_S (mF m0 ad) s.heap H locs → lv_has ls 4 [(0, .ref m0), (1, .int a1), (2, .int a2), (3, .int x3)] → w4_namesByTalk_l7 a1 a2 Post n x3 M → W p l e rX4_namesByTalk s m args below meth c H locs 0 0 Q (F0 m 7 ls []) := by
    intro n
    induction n with
    | zero => intro x3 M H locs ls hP hS hl h; rw [w4_namesByTalk_l7] at h; exact h.elim
    | succ n ih =>
      intro x3 M H locs ls hP hS hl h
      rw [w4_namesByTalk_l7] at h
      refine lv_iload_n hx hb dX4_namesByTalk_7 rfl (lv_at hl 3 rfl) ?_
      refine lv_aload_n hx hb dX4_namesByTalk_8 rfl (lv_at hl 0 rfl) ?_
      refine mg_i S hK hP (k := 13) (by decide) (by decide) q1433 dX4_namesByTalk_9 ?_
      refine lv_icmp_ge (tgt := 138) hx hb dX4_namesByTalk_12 (by decide) (fun c_2 => ?_) (fun c_2 => ?_)
      · replace h := h.1 c_2
        exact hret _ _ _ _ _ hP hS h dX4_namesByTalk_138
      · replace h := h.2 c_2
        refine lv_aload_n hx hb dX4_namesByTalk_15 rfl (lv_at hl 0 rfl) ?_
        refine lv_iload_n hx hb dX4_namesByTalk_16 rfl (lv_at hl 3 rfl) ?_
        refine lv_iload_n hx hb dX4_namesByTalk_17 rfl (lv_at hl 1 rfl) ?_
        refine lv_iload_n hx hb dX4_namesByTalk_18 rfl (lv_at hl 2 rfl) ?_
        refine mc_i S hK hP hS (As := [.int x3, .int a1, .int a2]) (rest := []) (mt4_isIn1 l hA x3 a1 a2 M _ h) (cwV 3 S.2.2.2.2 (lw_V q2034 q2036 qs133 q145 q2037) rfl rfl rfl cdX4_isIn1 ⟨Nat.le_of_ble_eq_true rfl, Nat.le_of_ble_eq_true rfl⟩) rfl rfl hl.1 (Nat.le_of_ble_eq_true rfl) dX4_namesByTalk_19 ⟨Nat.le_refl _, Nat.le_refl _⟩ (fun r_4 M_3 H locs h hP hS => ?_)
        refine lv_if_ne (tgt := 28) hx hb dX4_namesByTalk_22 (by decide) (fun c_5 => ?_) (fun c_5 => ?_)
        · replace h := h.2 c_5
          refine lv_aload_n hx hb dX4_namesByTalk_28 rfl (lv_at hl 0 rfl) ?_
          refine mg_r S hK hP (k := 31) (by decide) (by decide) q1451 dX4_namesByTalk_29 ?_
          refine lv_iload_n hx hb dX4_namesByTalk_32 rfl (lv_at hl 3 rfl) ?_
          obtain ⟨hi, h⟩ := h
          refine ml_z S hK hP (k := 31) af_31 rfl hi dX4_namesByTalk_33 ?_
          refine lv_if_ne (tgt := 73) hx hb dX4_namesByTalk_34 (by decide) (fun c_6 => ?_) (fun c_6 => ?_)
          · replace h := h.2 c_6
            refine lv_aload_n hx hb dX4_namesByTalk_73 rfl (lv_at hl 0 rfl) ?_
            refine lv_iload_n hx hb dX4_namesByTalk_74 rfl (lv_at hl 3 rfl) ?_
            refine lv_iload_n hx hb dX4_namesByTalk_75 rfl (lv_at hl 1 rfl) ?_
            refine lv_iload_n hx hb dX4_namesByTalk_76 rfl (lv_at hl 2 rfl) ?_
            refine mc_i S hK hP hS (As := [.int x3, .int a1, .int a2]) (rest := []) (mt4_isFirstIn l hA x3 a1 a2 M_3 _ h) (cwV 3 S.2.2.2.2 (lw_V q2038 q2040 qs134 q145 q2041) rfl rfl rfl cdX4_isFirstIn ⟨Nat.le_of_ble_eq_true rfl, Nat.le_of_ble_eq_true rfl⟩) rfl rfl hl.1 (Nat.le_of_ble_eq_true rfl) dX4_namesByTalk_77 ⟨Nat.le_refl _, Nat.le_refl _⟩ (fun r_8 M_7 H locs h hP hS => ?_)
            refine lv_if_eq (tgt := 132) hx hb dX4_namesByTalk_80 (by decide) (fun c_9 => ?_) (fun c_9 => ?_)
            · replace h := h.1 c_9
              exact C132 _ ih _ _ _ _ _ hP hS (lv_sub hl [0, 1, 2, 3] rfl) h
            · replace h := h.2 c_9
              refine lv_aload_n hx hb dX4_namesByTalk_83 rfl (lv_at hl 0 rfl) ?_
              refine mg_r S hK hP (k := 62) (by decide) (by decide) q1482 dX4_namesByTalk_84 ?_
              refine lv_aload_n hx hb dX4_namesByTalk_87 rfl (lv_at hl 0 rfl) ?_
              refine lv_iload_n hx hb dX4_namesByTalk_88 rfl (lv_at hl 3 rfl) ?_
              refine mc_i S hK hP hS (As := [.int x3]) (rest := [.ref (ad 62)]) (mt4_isRight l hA x3 M_7 _ h) (cwV 1 S.2.2.2.2 (lw_V q1814 q1816 qs100 q145 q1817) rfl rfl rfl cdX4_isRight ⟨Nat.le_of_ble_eq_true rfl, Nat.le_of_ble_eq_true rfl⟩) rfl rfl hl.1 (Nat.le_of_ble_eq_true rfl) dX4_namesByTalk_89 ⟨Nat.le_refl _, Nat.le_refl _⟩ (fun r_12 M_11 H locs h hP hS => ?_)
              refine lv_if_eq (tgt := 99) hx hb dX4_namesByTalk_92 (by decide) (fun c_13 => ?_) (fun c_13 => ?_)
              · replace h := h.1 c_13
                refine lv_bipush hx hb dX4_namesByTalk_99 kb_6 ?_
                exact C101 _ ih _ _ _ _ _ _ hP hS (lv_sub hl [0, 1, 2, 3] rfl) h
              · replace h := h.2 c_13
                refine lv_iconst hx hb dX4_namesByTalk_95 kc_5 ?_
                refine lv_goto (tgt := 101) hx hb dX4_namesByTalk_96 (by decide) ?_
                exact C101 _ ih _ _ _ _ _ _ hP hS (lv_sub hl [0, 1, 2, 3] rfl) h
          · replace h := h.1 c_6
            refine lv_aload_n hx hb dX4_namesByTalk_37 rfl (lv_at hl 0 rfl) ?_
            refine mg_r S hK hP (k := 62) (by decide) (by decide) q1482 dX4_namesByTalk_38 ?_
            refine lv_iconst hx hb dX4_namesByTalk_41 kc_3 ?_
            refine lv_dup2_11 hx hb dX4_namesByTalk_42 rfl rfl ?_
            obtain ⟨hi, h⟩ := h
            refine ml_b S hK hP (k := 62) af_62 rfl hi dX4_namesByTalk_43 ?_
            refine lv_lconst (v := 1) hx hb dX4_namesByTalk_44 rfl ?_
            refine lv_ladd hx hb dX4_namesByTalk_45 ?_
            obtain ⟨hi, h⟩ := h
            refine ms_b S hK hA hP hS (k := 62) af_62 rfl hi dX4_namesByTalk_46 (fun M_19 H locs e_M_19 hP hS => ?_)
            replace h := h M_19 e_M_19
            refine lv_aload_n hx hb dX4_namesByTalk_47 rfl (lv_at hl 0 rfl) ?_
            refine mg_r S hK hP (k := 62) (by decide) (by decide) q1482 dX4_namesByTalk_48 ?_
            refine lv_iconst hx hb dX4_namesByTalk_51 kc_4 ?_
            refine lv_dup2_11 hx hb dX4_namesByTalk_52 rfl rfl ?_
            obtain ⟨hi, h⟩ := h
            refine ml_b S hK hP (k := 62) af_62 rfl hi dX4_namesByTalk_53 ?_
            refine lv_aload_n hx hb dX4_namesByTalk_54 rfl (lv_at hl 0 rfl) ?_
            refine mg_r S hK hP (k := 35) (by decide) (by decide) q1455 dX4_namesByTalk_55 ?_
            refine lv_iload_n hx hb dX4_namesByTalk_58 rfl (lv_at hl 3 rfl) ?_
            obtain ⟨hi, h⟩ := h
            refine ml_a S hK hP (k := 35) af_35 rfl hi dX4_namesByTalk_59 ?_
            refine lv_if_lt (tgt := 67) hx hb dX4_namesByTalk_60 (by decide) (fun c_20 => ?_) (fun c_20 => ?_)
            · replace h := h.1 c_20
              refine lv_lconst (v := 0) hx hb dX4_namesByTalk_67 rfl ?_
              exact C68 _ ih _ _ _ _ _ _ _ _ hP hS (lv_sub hl [0, 1, 2, 3] rfl) h
            · replace h := h.2 c_20
              refine lv_lconst (v := 1) hx hb dX4_namesByTalk_63 rfl ?_
              refine lv_goto (tgt := 68) hx hb dX4_namesByTalk_64 (by decide) ?_
              exact C68 _ ih _ _ _ _ _ _ _ _ hP hS (lv_sub hl [0, 1, 2, 3] rfl) h
        · replace h := h.1 c_5
          refine lv_goto (tgt := 132) hx hb dX4_namesByTalk_25 (by decide) ?_
          exact C132 _ ih _ _ _ _ _ hP hS (lv_sub hl [0, 1, 2, 3] rfl) h
  unfold w4_namesByTalk at h
  refine lv_aload_n hx hb dX4_namesByTalk_0 rfl (lv_at hl 0 rfl) ?_
  refine lv_iload_n hx hb dX4_namesByTalk_1 rfl (lv_at hl 1 rfl) ?_
  refine mc_v S hK hP hS (As := [.int a1]) (rest := []) (mt4_noNames l hA a1 M _ h) (cwV 1 S.2.2.2.2 (lw_V q1968 q1970 qs121 q145 q1971) rfl rfl rfl cdX4_noNames ⟨Nat.le_of_ble_eq_true rfl, Nat.le_of_ble_eq_true rfl⟩) rfl rfl hl.1 (Nat.le_of_ble_eq_true rfl) dX4_namesByTalk_2 ⟨Nat.le_refl _, Nat.le_refl _⟩ (fun M_1 H locs h hP hS => ?_)
  refine lv_iconst hx hb dX4_namesByTalk_5 kc_0 ?_
  refine lv_istore_n (lv' := [(3, .int (0 : Int32)), (0, .ref m0), (1, .int a1), (2, .int a2)]) hx hb dX4_namesByTalk_6 rfl hl (by decide) rfl (fun ls hl => ?_)
  obtain ⟨f, h⟩ := h
  exact L7 f _ _ _ _ _ hP hS (lv_sub hl [1, 2, 3, 0] rfl) h
def w4_namesByBoth_c102 (a1 : Int32) (k46 : Int32 → MS → Prop) (Post : MS → Prop) (x2 : Int32) (M : MS) : Prop := ∀ v_13 : Int32, v_13 = x2 + (1 : Int32) → k46 v_13 M
def w4_namesByBoth_c89 (a1 : Int32) (k46 : Int32 → MS → Prop) (Post : MS → Prop) (x2 : Int32) (t0 : Int64) (t1 : Int64) (t2 : Int32) (M : MS) : Prop := (vp_in t2 (mN 62) ∧ ∀ M_11 : MS, M_11 = sb M 62 (Int32.toNatClampNeg t2) (t1 + t0) → (vp_in (9 : Int32) (mN 62) ∧ (vp_in (9 : Int32) (mN 62) ∧ ∀ M_12 : MS, M_12 = sb M_11 62 (Int32.toNatClampNeg (9 : Int32)) ((mb M_11 62 (Int32.toNatClampNeg (9 : Int32))) + (1 : Int64)) → w4_namesByBoth_c102 a1 k46 Post x2 M_12)))
def w4_namesByBoth_l46 (a1 : Int32) (Post : MS → Prop) : Nat → Int32 → MS → Prop
  | 0, _, _ => False
  | n + 1, x2, M => ((mi M 14) ≤ x2 → (Post M)) ∧ (¬ ((mi M 14) ≤ x2) → ((vp_in x2 (mN 36) ∧ ((ma M 36 (Int32.toNatClampNeg x2)) = a1 → ((vp_in (8 : Int32) (mN 62) ∧ w4_pageIs x2 M (fun r_9 M_8 => (r_9 ≤ (1 : Int32) → (w4_namesByBoth_c89 a1 (w4_namesByBoth_l46 a1 Post n) Post x2 (0 : Int64) (mb M 62 (Int32.toNatClampNeg (8 : Int32))) (8 : Int32) M_8)) ∧ (¬ (r_9 ≤ (1 : Int32)) → (w4_namesByBoth_c89 a1 (w4_namesByBoth_l46 a1 Post n) Post x2 (1 : Int64) (mb M 62 (Int32.toNatClampNeg (8 : Int32))) (8 : Int32) M_8)))))) ∧ (¬ ((ma M 36 (Int32.toNatClampNeg x2)) = a1) → (w4_namesByBoth_c102 a1 (w4_namesByBoth_l46 a1 Post n) Post x2 M)))))
def w4_namesByBoth (a1 : Int32) (M : MS) (Post : MS → Prop) : Prop := w4_namesByTalk a1 (0 : Int32) M (fun M_1 => (vp_in a1 (mN 29) ∧ (vp_in a1 (mN 28) ∧ (vp_in (1 : Int32) (mN 62) ∧ ∀ M_2 : MS, M_2 = sb M_1 62 (Int32.toNatClampNeg (1 : Int32)) (((ma M_1 29 (Int32.toNatClampNeg a1)) - (ma M_1 28 (Int32.toNatClampNeg a1))).toInt64) → (vp_in a1 (mN 29) ∧ w4_offUpTo a1 (ma M_2 29 (Int32.toNatClampNeg a1)) M_2 (fun r_4 M_3 => (vp_in (2 : Int32) (mN 62) ∧ ∀ M_5 : MS, M_5 = sb M_3 62 (Int32.toNatClampNeg (2 : Int32)) r_4.toInt64 → ∃ f, w4_namesByBoth_l46 a1 Post f (0 : Int32) M_5)))))))
abbrev rX4_namesByBoth : Room := { frames := 6, cells := 0, slots := 0, locals := 140 }
theorem cdX4_namesByBoth : yX4_namesByBoth.cls = RX4 ∧ yX4_namesByBoth.cls ≠ "java/lang/invoke/MethodHandle" ∧ yX4_namesByBoth.cls ≠ "java/lang/invoke/VarHandle" ∧ (parseMethodDescriptor yX4_namesByBoth.desc).map (fun d => d.parameters.length) = some 1 := by decide +kernel
set_option maxHeartbeats 4000000 in
set_option maxRecDepth 100000 in
theorem mt4_namesByBoth (l : Launch) {D : va_G} {cA : Nat → ClassId} {m0 : Nat} {ad : Nat → Nat} (hA : mAd m0 ad) (a1 : Int32) (M : MS) (Post : MS → Prop) (h : w4_namesByBoth a1 M Post) : Met l yX4_namesByBoth (ws_ yX4_namesByBoth cX4_namesByBoth 3 none) rX4_namesByBoth (mPc [.ref m0, .int a1] D cA m0 ad M) (va_Qv Post (mB D cA m0 ad) (mF m0 ad)) 0 0 (mF m0 ad) := by
  refine mst_v (own := RX4) (by decide) rfl (Nat.le_of_ble_eq_true rfl) ?_
  intro p e s m args below meth c Q ls S hK hP hS hl hret
  have hx := S.1
  have hb := S.2.1
  have hl : lv_has ls 3 [(0, .ref m0), (1, .int a1)] := hl
  have C102 : ∀ (k46 : Int32 → MS → Prop) (K46 : (∀ (x2 : Int32) (M : MS) (H : Heap) (locs : List Loc) (ls : Array Slot), va_P D vwCl (mo cA m0 ad M) H → va_S (mF m0 ad) s.heap H locs → lv_has ls 3 [(0, .ref m0), (1, .int a1), (2, .int x2)] → k46 x2 M → W p l e rX4_namesByBoth s m args below meth c H locs 0 0 Q (F0 m 46 ls []))), ∀ (x2 : Int32) (M : MS) (H : Heap) (locs : List Loc) (ls : Array Slot), va_P D vwCl (mo cA m0 ad M) H → va_S (mF m0 ad) s.heap H locs → lv_has ls 3 [(0, .ref m0), (1, .int a1), (2, .int x2)] → w4_namesByBoth_c102 a1 k46 Post x2 M → W p l e rX4_namesByBoth s m args below meth c H locs 0 0 Q (F0 m 102 ls []) := by
    intro k46 K46
    intro x2 M H locs ls hP hS hl h
    unfold w4_namesByBoth_c102 at h
    obtain ⟨v_13, e_v_13⟩ : ∃ y : Int32, y = x2 + (1 : Int32) := ⟨_, rfl⟩
    replace h := h v_13 e_v_13
    refine lv_iinc (v := v_13) (lv' := [(2, .int v_13), (0, .ref m0), (1, .int a1)]) hx hb dX4_namesByBoth_102 hl (k := 2) rfl (by rw [kc_1, e_v_13]) (by decide) rfl (fun ls hl => ?_)
    refine lv_goto (tgt := 46) hx hb dX4_namesByBoth_105 (by decide) ?_
    exact K46 _ _ _ _ _ hP hS (lv_sub hl [1, 2, 0] rfl) h
  have C89 : ∀ (k46 : Int32 → MS → Prop) (K46 : (∀ (x2 : Int32) (M : MS) (H : Heap) (locs : List Loc) (ls : Array Slot), va_P D vwCl (mo cA m0 ad M) H → va_S (mF m0 ad) s.heap H locs → lv_has ls 3 [(0, .ref m0), (1, .int a1), (2, .int x2)] → k46 x2 M → W p l e rX4_namesByBoth s m args below meth c H locs 0 0 Q (F0 m 46 ls []))), ∀ (x2 : Int32) (t0 : Int64) (t1 : Int64) (t2 : Int32) (M : MS) (H : Heap) (locs : List Loc) (ls : Array Slot), va_P D vwCl (mo cA m0 ad M) H → va_S (mF m0 ad) s.heap H locs → lv_has ls 3 [(0, .ref m0), (1, .int a1), (2, .int x2)] → w4_namesByBoth_c89 a1 k46 Post x2 t0 t1 t2 M → W p l e rX4_namesByBoth s m args below meth c H locs 0 0 Q (F0 m 89 ls [.long t0, .long t1, .int t2, .ref (ad 62)]) := by
    intro k46 K46
    intro x2 t0 t1 t2 M H locs ls hP hS hl h
    unfold w4_namesByBoth_c89 at h
    refine lv_ladd hx hb dX4_namesByBoth_89 ?_
    obtain ⟨hi, h⟩ := h
    refine ms_b S hK hA hP hS (k := 62) af_62 rfl hi dX4_namesByBoth_90 (fun M_11 H locs e_M_11 hP hS => ?_)
    replace h := h M_11 e_M_11
    refine lv_aload_n hx hb dX4_namesByBoth_91 rfl (lv_at hl 0 rfl) ?_
    refine mg_r S hK hP (k := 62) (by decide) (by decide) q1482 dX4_namesByBoth_92 ?_
    refine lv_bipush hx hb dX4_namesByBoth_95 kb_9 ?_
    refine lv_dup2_11 hx hb dX4_namesByBoth_97 rfl rfl ?_
    obtain ⟨hi, h⟩ := h
    refine ml_b S hK hP (k := 62) af_62 rfl hi dX4_namesByBoth_98 ?_
    refine lv_lconst (v := 1) hx hb dX4_namesByBoth_99 rfl ?_
    refine lv_ladd hx hb dX4_namesByBoth_100 ?_
    obtain ⟨hi, h⟩ := h
    refine ms_b S hK hA hP hS (k := 62) af_62 rfl hi dX4_namesByBoth_101 (fun M_12 H locs e_M_12 hP hS => ?_)
    replace h := h M_12 e_M_12
    exact C102 _ K46 _ _ _ _ _ hP hS (lv_sub hl [0, 1, 2] rfl) h
  have L46 : ∀ (n : Nat) (x2 : Int32) (M : MS) (H : Heap) (locs : List Loc) (ls : Array Slot), va_P D vwCl (mo cA m0 ad M) H → va_S (mF m0 ad) s.heap H locs → lv_has ls 3 [(0, .ref m0), (1, .int a1), (2, .int x2)] → w4_namesByBoth_l46 a1 Post n x2 M → W p l e rX4_namesByBoth s m args below meth c H locs 0 0 Q (F0 m 46 ls []) := by
    intro n
    induction n with
    | zero => intro x2 M H locs ls hP hS hl h; rw [w4_namesByBoth_l46] at h; exact h.elim
    | succ n ih =>
      intro x2 M H locs ls hP hS hl h
      rw [w4_namesByBoth_l46] at h
      refine lv_iload_n hx hb dX4_namesByBoth_46 rfl (lv_at hl 2 rfl) ?_
      refine lv_aload_n hx hb dX4_namesByBoth_47 rfl (lv_at hl 0 rfl) ?_
      refine mg_i S hK hP (k := 14) (by decide) (by decide) q1434 dX4_namesByBoth_48 ?_
      refine lv_icmp_ge (tgt := 108) hx hb dX4_namesByBoth_51 (by decide) (fun c_6 => ?_) (fun c_6 => ?_)
      · replace h := h.1 c_6
        exact hret _ _ _ _ _ hP hS h dX4_namesByBoth_108
      · replace h := h.2 c_6
        refine lv_aload_n hx hb dX4_namesByBoth_54 rfl (lv_at hl 0 rfl) ?_
        refine mg_r S hK hP (k := 36) (by decide) (by decide) q1456 dX4_namesByBoth_55 ?_
        refine lv_iload_n hx hb dX4_namesByBoth_58 rfl (lv_at hl 2 rfl) ?_
        obtain ⟨hi, h⟩ := h
        refine ml_a S hK hP (k := 36) af_36 rfl hi dX4_namesByBoth_59 ?_
        refine lv_iload_n hx hb dX4_namesByBoth_60 rfl (lv_at hl 1 rfl) ?_
        refine lv_icmp_eq (tgt := 67) hx hb dX4_namesByBoth_61 (by decide) (fun c_7 => ?_) (fun c_7 => ?_)
        · replace h := h.1 c_7
          refine lv_aload_n hx hb dX4_namesByBoth_67 rfl (lv_at hl 0 rfl) ?_
          refine mg_r S hK hP (k := 62) (by decide) (by decide) q1482 dX4_namesByBoth_68 ?_
          refine lv_bipush hx hb dX4_namesByBoth_71 kb_8 ?_
          refine lv_dup2_11 hx hb dX4_namesByBoth_73 rfl rfl ?_
          obtain ⟨hi, h⟩ := h
          refine ml_b S hK hP (k := 62) af_62 rfl hi dX4_namesByBoth_74 ?_
          refine lv_aload_n hx hb dX4_namesByBoth_75 rfl (lv_at hl 0 rfl) ?_
          refine lv_iload_n hx hb dX4_namesByBoth_76 rfl (lv_at hl 2 rfl) ?_
          refine mc_i S hK hP hS (As := [.int x2]) (rest := [.long (mb M 62 (Int32.toNatClampNeg (8 : Int32))), .int (8 : Int32), .ref (ad 62)]) (mt4_pageIs l hA x2 M _ h) (cwV 1 S.2.2.2.2 (lw_V q1886 q1888 qs110 q145 q1889) rfl rfl rfl cdX4_pageIs ⟨Nat.le_of_ble_eq_true rfl, Nat.le_of_ble_eq_true rfl⟩) rfl rfl hl.1 (Nat.le_of_ble_eq_true rfl) dX4_namesByBoth_77 ⟨Nat.le_refl _, Nat.le_refl _⟩ (fun r_9 M_8 H locs h hP hS => ?_)
          refine lv_iconst hx hb dX4_namesByBoth_80 kc_1 ?_
          refine lv_icmp_le (tgt := 88) hx hb dX4_namesByBoth_81 (by decide) (fun c_10 => ?_) (fun c_10 => ?_)
          · replace h := h.1 c_10
            refine lv_lconst (v := 0) hx hb dX4_namesByBoth_88 rfl ?_
            exact C89 _ ih _ _ _ _ _ _ _ _ hP hS (lv_sub hl [0, 1, 2] rfl) h
          · replace h := h.2 c_10
            refine lv_lconst (v := 1) hx hb dX4_namesByBoth_84 rfl ?_
            refine lv_goto (tgt := 89) hx hb dX4_namesByBoth_85 (by decide) ?_
            exact C89 _ ih _ _ _ _ _ _ _ _ hP hS (lv_sub hl [0, 1, 2] rfl) h
        · replace h := h.2 c_7
          refine lv_goto (tgt := 102) hx hb dX4_namesByBoth_64 (by decide) ?_
          exact C102 _ ih _ _ _ _ _ hP hS (lv_sub hl [0, 1, 2] rfl) h
  unfold w4_namesByBoth at h
  refine lv_aload_n hx hb dX4_namesByBoth_0 rfl (lv_at hl 0 rfl) ?_
  refine lv_iload_n hx hb dX4_namesByBoth_1 rfl (lv_at hl 1 rfl) ?_
  refine lv_iconst hx hb dX4_namesByBoth_2 kc_0 ?_
  refine mc_v S hK hP hS (As := [.int a1, .int (0 : Int32)]) (rest := []) (mt4_namesByTalk l hA a1 (0 : Int32) M _ h) (cwV 2 S.2.2.2.2 (lw_V q2030 q2032 qs132 q145 q2033) rfl rfl rfl cdX4_namesByTalk ⟨Nat.le_of_ble_eq_true rfl, Nat.le_of_ble_eq_true rfl⟩) rfl rfl hl.1 (Nat.le_of_ble_eq_true rfl) dX4_namesByBoth_3 ⟨Nat.le_refl _, Nat.le_refl _⟩ (fun M_1 H locs h hP hS => ?_)
  refine lv_aload_n hx hb dX4_namesByBoth_6 rfl (lv_at hl 0 rfl) ?_
  refine mg_r S hK hP (k := 62) (by decide) (by decide) q1482 dX4_namesByBoth_7 ?_
  refine lv_iconst hx hb dX4_namesByBoth_10 kc_1 ?_
  refine lv_aload_n hx hb dX4_namesByBoth_11 rfl (lv_at hl 0 rfl) ?_
  refine mg_r S hK hP (k := 29) (by decide) (by decide) q1449 dX4_namesByBoth_12 ?_
  refine lv_iload_n hx hb dX4_namesByBoth_15 rfl (lv_at hl 1 rfl) ?_
  obtain ⟨hi, h⟩ := h
  refine ml_a S hK hP (k := 29) af_29 rfl hi dX4_namesByBoth_16 ?_
  refine lv_aload_n hx hb dX4_namesByBoth_17 rfl (lv_at hl 0 rfl) ?_
  refine mg_r S hK hP (k := 28) (by decide) (by decide) q1448 dX4_namesByBoth_18 ?_
  refine lv_iload_n hx hb dX4_namesByBoth_21 rfl (lv_at hl 1 rfl) ?_
  obtain ⟨hi, h⟩ := h
  refine ml_a S hK hP (k := 28) af_28 rfl hi dX4_namesByBoth_22 ?_
  refine lv_isub hx hb dX4_namesByBoth_23 ?_
  refine lv_i2l hx hb dX4_namesByBoth_24 rfl ?_
  obtain ⟨hi, h⟩ := h
  refine ms_b S hK hA hP hS (k := 62) af_62 rfl hi dX4_namesByBoth_25 (fun M_2 H locs e_M_2 hP hS => ?_)
  replace h := h M_2 e_M_2
  refine lv_aload_n hx hb dX4_namesByBoth_26 rfl (lv_at hl 0 rfl) ?_
  refine mg_r S hK hP (k := 62) (by decide) (by decide) q1482 dX4_namesByBoth_27 ?_
  refine lv_iconst hx hb dX4_namesByBoth_30 kc_2 ?_
  refine lv_aload_n hx hb dX4_namesByBoth_31 rfl (lv_at hl 0 rfl) ?_
  refine lv_iload_n hx hb dX4_namesByBoth_32 rfl (lv_at hl 1 rfl) ?_
  refine lv_aload_n hx hb dX4_namesByBoth_33 rfl (lv_at hl 0 rfl) ?_
  refine mg_r S hK hP (k := 29) (by decide) (by decide) q1449 dX4_namesByBoth_34 ?_
  refine lv_iload_n hx hb dX4_namesByBoth_37 rfl (lv_at hl 1 rfl) ?_
  obtain ⟨hi, h⟩ := h
  refine ml_a S hK hP (k := 29) af_29 rfl hi dX4_namesByBoth_38 ?_
  refine mc_i S hK hP hS (As := [.int a1, .int (ma M_2 29 (Int32.toNatClampNeg a1))]) (rest := [.int (2 : Int32), .ref (ad 62)]) (mt4_offUpTo l hA a1 (ma M_2 29 (Int32.toNatClampNeg a1)) M_2 _ h) (cwV 2 S.2.2.2.2 (lw_V q1972 q1974 qs122 q145 q1975) rfl rfl rfl cdX4_offUpTo ⟨Nat.le_of_ble_eq_true rfl, Nat.le_of_ble_eq_true rfl⟩) rfl rfl hl.1 (Nat.le_of_ble_eq_true rfl) dX4_namesByBoth_39 ⟨Nat.le_refl _, Nat.le_refl _⟩ (fun r_4 M_3 H locs h hP hS => ?_)
  refine lv_i2l hx hb dX4_namesByBoth_42 rfl ?_
  obtain ⟨hi, h⟩ := h
  refine ms_b S hK hA hP hS (k := 62) af_62 rfl hi dX4_namesByBoth_43 (fun M_5 H locs e_M_5 hP hS => ?_)
  replace h := h M_5 e_M_5
  refine lv_iconst hx hb dX4_namesByBoth_44 kc_0 ?_
  refine lv_istore_n (lv' := [(2, .int (0 : Int32)), (0, .ref m0), (1, .int a1)]) hx hb dX4_namesByBoth_45 rfl hl (by decide) rfl (fun ls hl => ?_)
  obtain ⟨f, h⟩ := h
  exact L46 f _ _ _ _ _ hP hS (lv_sub hl [1, 2, 0] rfl) h
def w4_holds (a1 : Int32) (M : MS) (Post : Int32 → MS → Prop) : Prop := w4_hasLine a1 M (fun r_2 M_1 => (r_2 = 0 → (Post (0 : Int32) M_1)) ∧ (¬ (r_2 = 0) → (w4_sumOf a1 M_1 (fun r_5 M_4 => ((mi M_4 64) = 0 → ((r_5 = (0 : Int64) → (Post (0 : Int32) M_4)) ∧ (¬ (r_5 = (0 : Int64)) → (Post (1 : Int32) M_4)))) ∧ (¬ ((mi M_4 64) = 0) → (Post (0 : Int32) M_4))))))
abbrev rX4_holds : Room := { frames := 3, cells := 0, slots := 0, locals := 72 }
theorem cdX4_holds : yX4_holds.cls = RX4 ∧ yX4_holds.cls ≠ "java/lang/invoke/MethodHandle" ∧ yX4_holds.cls ≠ "java/lang/invoke/VarHandle" ∧ (parseMethodDescriptor yX4_holds.desc).map (fun d => d.parameters.length) = some 1 := by decide +kernel
set_option maxHeartbeats 4000000 in
set_option maxRecDepth 100000 in
theorem mt4_holds (l : Launch) {D : va_G} {cA : Nat → ClassId} {m0 : Nat} {ad : Nat → Nat} (hA : mAd m0 ad) (a1 : Int32) (M : MS) (Post : Int32 → MS → Prop) (h : w4_holds a1 M Post) : Met l yX4_holds (ws_ yX4_holds cX4_holds 4 (some .boolean)) rX4_holds (mPc [.ref m0, .int a1] D cA m0 ad M) (va_Qi Post (mB D cA m0 ad) (mF m0 ad)) 0 0 (mF m0 ad) := by
  refine mst_i (own := RX4) (by decide) rfl (Nat.le_of_ble_eq_true rfl) ?_
  intro p e s m args below meth c Q ls S hK hP hS hl hret
  have hx := S.1
  have hb := S.2.1
  have hl : lv_has ls 4 [(0, .ref m0), (1, .int a1)] := hl
  unfold w4_holds at h
  refine lv_aload_n hx hb dX4_holds_0 rfl (lv_at hl 0 rfl) ?_
  refine lv_iload_n hx hb dX4_holds_1 rfl (lv_at hl 1 rfl) ?_
  refine mc_i S hK hP hS (As := [.int a1]) (rest := []) (mt4_hasLine l hA a1 M _ h) (cwV 1 S.2.2.2.2 (lw_V q1964 q1966 qs120 q145 q1967) rfl rfl rfl cdX4_hasLine ⟨Nat.le_of_ble_eq_true rfl, Nat.le_of_ble_eq_true rfl⟩) rfl rfl hl.1 (Nat.le_of_ble_eq_true rfl) dX4_holds_2 ⟨Nat.le_refl _, Nat.le_refl _⟩ (fun r_2 M_1 H locs h hP hS => ?_)
  refine lv_if_ne (tgt := 10) hx hb dX4_holds_5 (by decide) (fun c_3 => ?_) (fun c_3 => ?_)
  · replace h := h.2 c_3
    refine lv_aload_n hx hb dX4_holds_10 rfl (lv_at hl 0 rfl) ?_
    refine lv_iload_n hx hb dX4_holds_11 rfl (lv_at hl 1 rfl) ?_
    refine mc_l S hK hP hS (As := [.int a1]) (rest := []) (mt4_sumOf l hA a1 M_1 _ h) (cwV 1 S.2.2.2.2 (lw_V q1976 q1978 qs123 q145 q1979) rfl rfl rfl cdX4_sumOf ⟨Nat.le_of_ble_eq_true rfl, Nat.le_of_ble_eq_true rfl⟩) rfl rfl hl.1 (Nat.le_of_ble_eq_true rfl) dX4_holds_12 ⟨Nat.le_refl _, Nat.le_refl _⟩ (fun r_5 M_4 H locs h hP hS => ?_)
    refine lv_lstore_n (lv' := [(2, .long r_5), (0, .ref m0), (1, .int a1)]) hx hb dX4_holds_15 rfl hl (by decide) rfl (fun ls hl => ?_)
    refine lv_aload_n hx hb dX4_holds_16 rfl (lv_at hl 1 rfl) ?_
    refine mg_i S hK hP (k := 64) (by decide) (by decide) q1484 dX4_holds_17 ?_
    refine lv_if_ne (tgt := 33) hx hb dX4_holds_20 (by decide) (fun c_6 => ?_) (fun c_6 => ?_)
    · replace h := h.2 c_6
      refine lv_iconst hx hb dX4_holds_33 kc_0 ?_
      exact hret _ _ _ _ _ _ hP hS h (vz_nar vz_0) dX4_holds_34
    · replace h := h.1 c_6
      refine lv_lload_n hx hb dX4_holds_23 rfl (lv_at hl 0 rfl) ?_
      refine lv_lconst (v := 0) hx hb dX4_holds_24 rfl ?_
      refine W.lcmp hx hb dX4_holds_25 ?_
      refine lv_if_eq (tgt := 33) hx hb dX4_holds_26 (by decide) (fun c_7 => ?_) (fun c_7 => ?_)
      · replace h := h.1 ((lg_cmp_eq _ _).mp c_7)
        refine lv_iconst hx hb dX4_holds_33 kc_0 ?_
        exact hret _ _ _ _ _ _ hP hS h (vz_nar vz_0) dX4_holds_34
      · replace h := h.2 (fun q => c_7 ((lg_cmp_eq _ _).mpr q))
        refine lv_iconst hx hb dX4_holds_29 kc_1 ?_
        refine lv_goto (tgt := 34) hx hb dX4_holds_30 (by decide) ?_
        exact hret _ _ _ _ _ _ hP hS h (vz_nar vz_1) dX4_holds_34
  · replace h := h.1 c_3
    refine lv_iconst hx hb dX4_holds_8 kc_0 ?_
    exact hret _ _ _ _ _ _ hP hS h (vz_nar vz_0) dX4_holds_9
def w4_isBarred (a1 : Int32) (M : MS) (Post : Int32 → MS → Prop) : Prop := w4_namesByBoth a1 M (fun M_1 => w4_holds (1 : Int32) M_1 (fun r_3 M_2 => vz r_3 ∧ Post r_3 M_2))
abbrev rX4_isBarred : Room := { frames := 7, cells := 0, slots := 0, locals := 162 }
theorem cdX4_isBarred : yX4_isBarred.cls = RX4 ∧ yX4_isBarred.cls ≠ "java/lang/invoke/MethodHandle" ∧ yX4_isBarred.cls ≠ "java/lang/invoke/VarHandle" ∧ (parseMethodDescriptor yX4_isBarred.desc).map (fun d => d.parameters.length) = some 1 := by decide +kernel
set_option maxHeartbeats 4000000 in
set_option maxRecDepth 100000 in
theorem mt4_isBarred (l : Launch) {D : va_G} {cA : Nat → ClassId} {m0 : Nat} {ad : Nat → Nat} (hA : mAd m0 ad) (a1 : Int32) (M : MS) (Post : Int32 → MS → Prop) (h : w4_isBarred a1 M Post) : Met l yX4_isBarred (ws_ yX4_isBarred cX4_isBarred 2 (some .boolean)) rX4_isBarred (mPc [.ref m0, .int a1] D cA m0 ad M) (va_Qi Post (mB D cA m0 ad) (mF m0 ad)) 0 0 (mF m0 ad) := by
  refine mst_i (own := RX4) (by decide) rfl (Nat.le_of_ble_eq_true rfl) ?_
  intro p e s m args below meth c Q ls S hK hP hS hl hret
  have hx := S.1
  have hb := S.2.1
  have hl : lv_has ls 2 [(0, .ref m0), (1, .int a1)] := hl
  unfold w4_isBarred at h
  refine lv_aload_n hx hb dX4_isBarred_0 rfl (lv_at hl 0 rfl) ?_
  refine lv_iload_n hx hb dX4_isBarred_1 rfl (lv_at hl 1 rfl) ?_
  refine mc_v S hK hP hS (As := [.int a1]) (rest := []) (mt4_namesByBoth l hA a1 M _ h) (cwV 1 S.2.2.2.2 (lw_V q2026 q2028 qs131 q145 q2029) rfl rfl rfl cdX4_namesByBoth ⟨Nat.le_of_ble_eq_true rfl, Nat.le_of_ble_eq_true rfl⟩) rfl rfl hl.1 (Nat.le_of_ble_eq_true rfl) dX4_isBarred_2 ⟨Nat.le_refl _, Nat.le_refl _⟩ (fun M_1 H locs h hP hS => ?_)
  refine lv_aload_n hx hb dX4_isBarred_5 rfl (lv_at hl 0 rfl) ?_
  refine lv_iconst hx hb dX4_isBarred_6 kc_1 ?_
  refine mc_i S hK hP hS (As := [.int (1 : Int32)]) (rest := []) (mt4_holds l hA (1 : Int32) M_1 _ h) (cwV 1 S.2.2.2.2 (lw_V q2042 q2044 qs135 q145 q2045) rfl rfl rfl cdX4_holds ⟨Nat.le_of_ble_eq_true rfl, Nat.le_of_ble_eq_true rfl⟩) rfl rfl hl.1 (Nat.le_of_ble_eq_true rfl) dX4_isBarred_7 ⟨Nat.le_refl _, Nat.le_refl _⟩ (fun r_3 M_2 H locs h hP hS => ?_)
  exact hret _ _ _ _ _ _ hP hS h.2 (vz_nar h.1) dX4_isBarred_10
def w4_barred (a1 : Int32) (M : MS) (Post : Int32 → MS → Prop) : Prop := ∀ M_1 : MS, M_1 = si M 2 (0 : Int32) → w4_isTeller a1 M_1 (fun r_3 M_2 => (r_3 = 0 → (Post (-1 : Int32) M_2)) ∧ (¬ (r_3 = 0) → (w4_isBarred a1 M_2 (fun r_6 M_5 => (r_6 = 0 → (Post (0 : Int32) M_5)) ∧ (¬ (r_6 = 0) → (Post (1 : Int32) M_5))))))
abbrev rX4_barred : Room := { frames := 8, cells := 0, slots := 0, locals := 183 }
theorem cdX4_barred : yX4_barred.cls = RX4 ∧ yX4_barred.cls ≠ "java/lang/invoke/MethodHandle" ∧ yX4_barred.cls ≠ "java/lang/invoke/VarHandle" ∧ (parseMethodDescriptor yX4_barred.desc).map (fun d => d.parameters.length) = some 1 := by decide +kernel
set_option maxHeartbeats 4000000 in
set_option maxRecDepth 100000 in
theorem mt4_barred (l : Launch) {D : va_G} {cA : Nat → ClassId} {m0 : Nat} {ad : Nat → Nat} (hA : mAd m0 ad) (a1 : Int32) (M : MS) (Post : Int32 → MS → Prop) (h : w4_barred a1 M Post) : Met l yX4_barred (ws_ yX4_barred cX4_barred 2 (some .int)) rX4_barred (mPc [.ref m0, .int a1] D cA m0 ad M) (va_Qi Post (mB D cA m0 ad) (mF m0 ad)) 0 0 (mF m0 ad) := by
  refine mst_i (own := RX4) (by decide) rfl (Nat.le_of_ble_eq_true rfl) ?_
  intro p e s m args below meth c Q ls S hK hP hS hl hret
  have hx := S.1
  have hb := S.2.1
  have hl : lv_has ls 2 [(0, .ref m0), (1, .int a1)] := hl
  unfold w4_barred at h
  refine lv_aload_n hx hb dX4_barred_0 rfl (lv_at hl 0 rfl) ?_
  refine lv_iconst hx hb dX4_barred_1 kc_0 ?_
  refine mp_i S hK hA hP hS (k := 2) (by decide) (Or.inl rfl) rfl (Or.inl ⟨rfl, rfl⟩) q1422 dX4_barred_2 (fun M_1 H locs e_M_1 hP hS => ?_)
  replace h := h M_1 e_M_1
  refine lv_aload_n hx hb dX4_barred_5 rfl (lv_at hl 0 rfl) ?_
  refine lv_iload_n hx hb dX4_barred_6 rfl (lv_at hl 1 rfl) ?_
  refine mc_i S hK hP hS (As := [.int a1]) (rest := []) (mt4_isTeller l hA a1 M_1 _ h) (cwV 1 S.2.2.2.2 (lw_V q1771 q1773 qs95 q145 q1774) rfl rfl rfl cdX4_isTeller ⟨Nat.le_of_ble_eq_true rfl, Nat.le_of_ble_eq_true rfl⟩) rfl rfl hl.1 (Nat.le_of_ble_eq_true rfl) dX4_barred_7 ⟨Nat.le_refl _, Nat.le_refl _⟩ (fun r_3 M_2 H locs h hP hS => ?_)
  refine lv_if_ne (tgt := 17) hx hb dX4_barred_10 (by decide) (fun c_4 => ?_) (fun c_4 => ?_)
  · replace h := h.2 c_4
    refine lv_aload_n hx hb dX4_barred_17 rfl (lv_at hl 0 rfl) ?_
    refine lv_iload_n hx hb dX4_barred_18 rfl (lv_at hl 1 rfl) ?_
    refine mc_i S hK hP hS (As := [.int a1]) (rest := []) (mt4_isBarred l hA a1 M_2 _ h) (cwV 1 S.2.2.2.2 (lw_V q2022 q2024 qs130 q145 q2025) rfl rfl rfl cdX4_isBarred ⟨Nat.le_of_ble_eq_true rfl, Nat.le_of_ble_eq_true rfl⟩) rfl rfl hl.1 (Nat.le_of_ble_eq_true rfl) dX4_barred_19 ⟨Nat.le_refl _, Nat.le_refl _⟩ (fun r_6 M_5 H locs h hP hS => ?_)
    refine lv_if_eq (tgt := 29) hx hb dX4_barred_22 (by decide) (fun c_7 => ?_) (fun c_7 => ?_)
    · replace h := h.1 c_7
      refine lv_iconst hx hb dX4_barred_29 kc_0 ?_
      exact hret _ _ _ _ _ _ hP hS h rfl dX4_barred_30
    · replace h := h.2 c_7
      refine lv_iconst hx hb dX4_barred_25 kc_1 ?_
      refine lv_goto (tgt := 30) hx hb dX4_barred_26 (by decide) ?_
      exact hret _ _ _ _ _ _ hP hS h rfl dX4_barred_30
  · replace h := h.1 c_4
    refine lv_iconst hx hb dX4_barred_13 kc_m1 ?_
    refine lv_goto (tgt := 30) hx hb dX4_barred_14 (by decide) ?_
    exact hret _ _ _ _ _ _ hP hS h rfl dX4_barred_30
def w4_namesByPage_c82 (a1 : Int32) (k7 : Int32 → MS → Prop) (Post : MS → Prop) (x2 : Int32) (M : MS) : Prop := ∀ v_8 : Int32, v_8 = x2 + (1 : Int32) → k7 v_8 M
def w4_namesByPage_c77 (a1 : Int32) (k7 : Int32 → MS → Prop) (Post : MS → Prop) (x2 : Int32) (t0 : Int32) (M : MS) : Prop := (vp_in t0 (mN 62) ∧ (vp_in t0 (mN 62) ∧ ∀ M_10 : MS, M_10 = sb M 62 (Int32.toNatClampNeg t0) ((mb M 62 (Int32.toNatClampNeg t0)) + (1 : Int64)) → w4_namesByPage_c82 a1 k7 Post x2 M_10))
def w4_namesByPage_l7 (a1 : Int32) (Post : MS → Prop) : Nat → Int32 → MS → Prop
  | 0, _, _ => False
  | n + 1, x2, M => ((mi M 14) ≤ x2 → (Post M)) ∧ (¬ ((mi M 14) ≤ x2) → ((vp_in x2 (mN 36) ∧ ((ma M 36 (Int32.toNatClampNeg x2)) = a1 → ((vp_in (9 : Int32) (mN 62) ∧ (vp_in (9 : Int32) (mN 62) ∧ ∀ M_4 : MS, M_4 = sb M 62 (Int32.toNatClampNeg (9 : Int32)) ((mb M 62 (Int32.toNatClampNeg (9 : Int32))) + (1 : Int64)) → w4_isFirstLine x2 M_4 (fun r_6 M_5 => (r_6 = 0 → (w4_namesByPage_c82 a1 (w4_namesByPage_l7 a1 Post n) Post x2 M_5)) ∧ (¬ (r_6 = 0) → ((vp_in x2 (mN 38) ∧ (vp_in x2 (mN 37) ∧ (vp_in (ma M_5 37 (Int32.toNatClampNeg x2)) (mN 23) ∧ ((ma M_5 38 (Int32.toNatClampNeg x2)) = (ma M_5 23 (Int32.toNatClampNeg (ma M_5 37 (Int32.toNatClampNeg x2)))) → (w4_namesByPage_c77 a1 (w4_namesByPage_l7 a1 Post n) Post x2 (5 : Int32) M_5)) ∧ (¬ ((ma M_5 38 (Int32.toNatClampNeg x2)) = (ma M_5 23 (Int32.toNatClampNeg (ma M_5 37 (Int32.toNatClampNeg x2))))) → (w4_namesByPage_c77 a1 (w4_namesByPage_l7 a1 Post n) Post x2 (6 : Int32) M_5)))))))))))) ∧ (¬ ((ma M 36 (Int32.toNatClampNeg x2)) = a1) → (w4_namesByPage_c82 a1 (w4_namesByPage_l7 a1 Post n) Post x2 M)))))
def w4_namesByPage (a1 : Int32) (M : MS) (Post : MS → Prop) : Prop := w4_noNames a1 M (fun M_1 => ∃ f, w4_namesByPage_l7 a1 Post f (0 : Int32) M_1)
abbrev rX4_namesByPage : Room := { frames := 1, cells := 0, slots := 0, locals := 22 }
theorem cdX4_namesByPage : yX4_namesByPage.cls = RX4 ∧ yX4_namesByPage.cls ≠ "java/lang/invoke/MethodHandle" ∧ yX4_namesByPage.cls ≠ "java/lang/invoke/VarHandle" ∧ (parseMethodDescriptor yX4_namesByPage.desc).map (fun d => d.parameters.length) = some 1 := by decide +kernel
set_option maxHeartbeats 4000000 in
set_option maxRecDepth 100000 in
theorem mt4_namesByPage (l : Launch) {D : va_G} {cA : Nat → ClassId} {m0 : Nat} {ad : Nat → Nat} (hA : mAd m0 ad) (a1 : Int32) (M : MS) (Post : MS → Prop) (h : w4_namesByPage a1 M Post) : Met l yX4_namesByPage (ws_ yX4_namesByPage cX4_namesByPage 3 none) rX4_namesByPage (mPc [.ref m0, .int a1] D cA m0 ad M) (va_Qv Post (mB D cA m0 ad) (mF m0 ad)) 0 0 (mF m0 ad) := by
  refine mst_v (own := RX4) (by decide) rfl (Nat.le_of_ble_eq_true rfl) ?_
  intro p e s m args below meth c Q ls S hK hP hS hl hret
  have hx := S.1
  have hb := S.2.1
  have hl : lv_has ls 3 [(0, .ref m0), (1, .int a1)] := hl
  have C82 : ∀ (k7 : Int32 → MS → Prop) (K7 : (∀ (x2 : Int32) (M : MS) (H : Heap) (locs : List Loc) (ls : Array Slot), va_P D vwCl (mo cA m0 ad M) H → va_S (mF m0 ad) s.heap H locs → lv_has ls 3 [(0, .ref m0), (1, .int a1), (2, .int x2)] → k7 x2 M → W p l e rX4_namesByPage s m args below meth c H locs 0 0 Q (F0 m 7 ls []))), ∀ (x2 : Int32) (M : MS) (H : Heap) (locs : List Loc) (ls : Array Slot), va_P D vwCl (mo cA m0 ad M) H → va_S (mF m0 ad) s.heap H locs → lv_has ls 3 [(0, .ref m0), (1, .int a1), (2, .int x2)] → w4_namesByPage_c82 a1 k7 Post x2 M → W p l e rX4_namesByPage s m args below meth c H locs 0 0 Q (F0 m 82 ls []) := by
    intro k7 K7
    intro x2 M H locs ls hP hS hl h
    unfold w4_namesByPage_c82 at h
    obtain ⟨v_8, e_v_8⟩ : ∃ y : Int32, y = x2 + (1 : Int32) := ⟨_, rfl⟩
    replace h := h v_8 e_v_8
    refine lv_iinc (v := v_8) (lv' := [(2, .int v_8), (0, .ref m0), (1, .int a1)]) hx hb dX4_namesByPage_82 hl (k := 2) rfl (by rw [kc_1, e_v_8]) (by decide) rfl (fun ls hl => ?_)
    refine lv_goto (tgt := 7) hx hb dX4_namesByPage_85 (by decide) ?_
    exact K7 _ _ _ _ _ hP hS (lv_sub hl [1, 2, 0] rfl) h
  have C77 : ∀ (k7 : Int32 → MS → Prop) (K7 : (∀ (x2 : Int32) (M : MS) (H : Heap) (locs : List Loc) (ls : Array Slot), va_P D vwCl (mo cA m0 ad M) H → va_S (mF m0 ad) s.heap H locs → lv_has ls 3 [(0, .ref m0), (1, .int a1), (2, .int x2)] → k7 x2 M → W p l e rX4_namesByPage s m args below meth c H locs 0 0 Q (F0 m 7 ls []))), ∀ (x2 : Int32) (t0 : Int32) (M : MS) (H : Heap) (locs : List Loc) (ls : Array Slot), va_P D vwCl (mo cA m0 ad M) H → va_S (mF m0 ad) s.heap H locs → lv_has ls 3 [(0, .ref m0), (1, .int a1), (2, .int x2)] → w4_namesByPage_c77 a1 k7 Post x2 t0 M → W p l e rX4_namesByPage s m args below meth c H locs 0 0 Q (F0 m 77 ls [.int t0, .ref (ad 62)]) := by
    intro k7 K7
    intro x2 t0 M H locs ls hP hS hl h
    unfold w4_namesByPage_c77 at h
    refine lv_dup2_11 hx hb dX4_namesByPage_77 rfl rfl ?_
    obtain ⟨hi, h⟩ := h
    refine ml_b S hK hP (k := 62) af_62 rfl hi dX4_namesByPage_78 ?_
    refine lv_lconst (v := 1) hx hb dX4_namesByPage_79 rfl ?_
    refine lv_ladd hx hb dX4_namesByPage_80 ?_
    obtain ⟨hi, h⟩ := h
    refine ms_b S hK hA hP hS (k := 62) af_62 rfl hi dX4_namesByPage_81 (fun M_10 H locs e_M_10 hP hS => ?_)
    replace h := h M_10 e_M_10
    exact C82 _ K7 _ _ _ _ _ hP hS (lv_sub hl [0, 1, 2] rfl) h
  have L7 : ∀ (n : Nat) (x2 : Int32) (M : MS) (H : Heap) (locs : List Loc) (ls : Array Slot), va_P D vwCl (mo cA m0 ad M) H → va_S (mF m0 ad) s.heap H locs → lv_has ls 3 [(0, .ref m0), (1, .int a1), (2, .int x2)] → w4_namesByPage_l7 a1 Post n x2 M → W p l e rX4_namesByPage s m args below meth c H locs 0 0 Q (F0 m 7 ls []) := by
    intro n
    induction n with
    | zero => intro x2 M H locs ls hP hS hl h; rw [w4_namesByPage_l7] at h; exact h.elim
    | succ n ih =>
      intro x2 M H locs ls hP hS hl h
      rw [w4_namesByPage_l7] at h
      refine lv_iload_n hx hb dX4_namesByPage_7 rfl (lv_at hl 2 rfl) ?_
      refine lv_aload_n hx hb dX4_namesByPage_8 rfl (lv_at hl 0 rfl) ?_
      refine mg_i S hK hP (k := 14) (by decide) (by decide) q1434 dX4_namesByPage_9 ?_
      refine lv_icmp_ge (tgt := 88) hx hb dX4_namesByPage_12 (by decide) (fun c_2 => ?_) (fun c_2 => ?_)
      · replace h := h.1 c_2
        exact hret _ _ _ _ _ hP hS h dX4_namesByPage_88
      · replace h := h.2 c_2
        refine lv_aload_n hx hb dX4_namesByPage_15 rfl (lv_at hl 0 rfl) ?_
        refine mg_r S hK hP (k := 36) (by decide) (by decide) q1456 dX4_namesByPage_16 ?_
        refine lv_iload_n hx hb dX4_namesByPage_19 rfl (lv_at hl 2 rfl) ?_
        obtain ⟨hi, h⟩ := h
        refine ml_a S hK hP (k := 36) af_36 rfl hi dX4_namesByPage_20 ?_
        refine lv_iload_n hx hb dX4_namesByPage_21 rfl (lv_at hl 1 rfl) ?_
        refine lv_icmp_eq (tgt := 28) hx hb dX4_namesByPage_22 (by decide) (fun c_3 => ?_) (fun c_3 => ?_)
        · replace h := h.1 c_3
          refine lv_aload_n hx hb dX4_namesByPage_28 rfl (lv_at hl 0 rfl) ?_
          refine mg_r S hK hP (k := 62) (by decide) (by decide) q1482 dX4_namesByPage_29 ?_
          refine lv_bipush hx hb dX4_namesByPage_32 kb_9 ?_
          refine lv_dup2_11 hx hb dX4_namesByPage_34 rfl rfl ?_
          obtain ⟨hi, h⟩ := h
          refine ml_b S hK hP (k := 62) af_62 rfl hi dX4_namesByPage_35 ?_
          refine lv_lconst (v := 1) hx hb dX4_namesByPage_36 rfl ?_
          refine lv_ladd hx hb dX4_namesByPage_37 ?_
          obtain ⟨hi, h⟩ := h
          refine ms_b S hK hA hP hS (k := 62) af_62 rfl hi dX4_namesByPage_38 (fun M_4 H locs e_M_4 hP hS => ?_)
          replace h := h M_4 e_M_4
          refine lv_aload_n hx hb dX4_namesByPage_39 rfl (lv_at hl 0 rfl) ?_
          refine lv_iload_n hx hb dX4_namesByPage_40 rfl (lv_at hl 2 rfl) ?_
          refine mc_i S hK hP hS (As := [.int x2]) (rest := []) (mt4_isFirstLine l hA x2 M_4 _ h) (cwV 1 S.2.2.2.2 (lw_V q1873 q1875 qs108 q145 q1876) rfl rfl rfl cdX4_isFirstLine ⟨Nat.le_of_ble_eq_true rfl, Nat.le_of_ble_eq_true rfl⟩) rfl rfl hl.1 (Nat.le_of_ble_eq_true rfl) dX4_namesByPage_41 ⟨Nat.le_refl _, Nat.le_refl _⟩ (fun r_6 M_5 H locs h hP hS => ?_)
          refine lv_if_eq (tgt := 82) hx hb dX4_namesByPage_44 (by decide) (fun c_7 => ?_) (fun c_7 => ?_)
          · replace h := h.1 c_7
            exact C82 _ ih _ _ _ _ _ hP hS (lv_sub hl [0, 1, 2] rfl) h
          · replace h := h.2 c_7
            refine lv_aload_n hx hb dX4_namesByPage_47 rfl (lv_at hl 0 rfl) ?_
            refine mg_r S hK hP (k := 62) (by decide) (by decide) q1482 dX4_namesByPage_48 ?_
            refine lv_aload_n hx hb dX4_namesByPage_51 rfl (lv_at hl 0 rfl) ?_
            refine mg_r S hK hP (k := 38) (by decide) (by decide) q1458 dX4_namesByPage_52 ?_
            refine lv_iload_n hx hb dX4_namesByPage_55 rfl (lv_at hl 2 rfl) ?_
            obtain ⟨hi, h⟩ := h
            refine ml_a S hK hP (k := 38) af_38 rfl hi dX4_namesByPage_56 ?_
            refine lv_aload_n hx hb dX4_namesByPage_57 rfl (lv_at hl 0 rfl) ?_
            refine mg_r S hK hP (k := 23) (by decide) (by decide) q1443 dX4_namesByPage_58 ?_
            refine lv_aload_n hx hb dX4_namesByPage_61 rfl (lv_at hl 0 rfl) ?_
            refine mg_r S hK hP (k := 37) (by decide) (by decide) q1457 dX4_namesByPage_62 ?_
            refine lv_iload_n hx hb dX4_namesByPage_65 rfl (lv_at hl 2 rfl) ?_
            obtain ⟨hi, h⟩ := h
            refine ml_a S hK hP (k := 37) af_37 rfl hi dX4_namesByPage_66 ?_
            obtain ⟨hi, h⟩ := h
            refine ml_a S hK hP (k := 23) af_23 rfl hi dX4_namesByPage_67 ?_
            refine lv_icmp_ne (tgt := 75) hx hb dX4_namesByPage_68 (by decide) (fun c_9 => ?_) (fun c_9 => ?_)
            · replace h := h.2 c_9
              refine lv_bipush hx hb dX4_namesByPage_75 kb_6 ?_
              exact C77 _ ih _ _ _ _ _ _ hP hS (lv_sub hl [0, 1, 2] rfl) h
            · replace h := h.1 c_9
              refine lv_iconst hx hb dX4_namesByPage_71 kc_5 ?_
              refine lv_goto (tgt := 77) hx hb dX4_namesByPage_72 (by decide) ?_
              exact C77 _ ih _ _ _ _ _ _ hP hS (lv_sub hl [0, 1, 2] rfl) h
        · replace h := h.2 c_3
          refine lv_goto (tgt := 82) hx hb dX4_namesByPage_25 (by decide) ?_
          exact C82 _ ih _ _ _ _ _ hP hS (lv_sub hl [0, 1, 2] rfl) h
  unfold w4_namesByPage at h
  refine lv_aload_n hx hb dX4_namesByPage_0 rfl (lv_at hl 0 rfl) ?_
  refine lv_iload_n hx hb dX4_namesByPage_1 rfl (lv_at hl 1 rfl) ?_
  refine mc_v S hK hP hS (As := [.int a1]) (rest := []) (mt4_noNames l hA a1 M _ h) (cwV 1 S.2.2.2.2 (lw_V q1968 q1970 qs121 q145 q1971) rfl rfl rfl cdX4_noNames ⟨Nat.le_of_ble_eq_true rfl, Nat.le_of_ble_eq_true rfl⟩) rfl rfl hl.1 (Nat.le_of_ble_eq_true rfl) dX4_namesByPage_2 ⟨Nat.le_refl _, Nat.le_refl _⟩ (fun M_1 H locs h hP hS => ?_)
  refine lv_iconst hx hb dX4_namesByPage_5 kc_0 ?_
  refine lv_istore_n (lv' := [(2, .int (0 : Int32)), (0, .ref m0), (1, .int a1)]) hx hb dX4_namesByPage_6 rfl hl (by decide) rfl (fun ls hl => ?_)
  obtain ⟨f, h⟩ := h
  exact L7 f _ _ _ _ _ hP hS (lv_sub hl [1, 2, 0] rfl) h
def w4_finds_c64 (a1 : Int32) (a2 : Int32) (Post : Int32 → MS → Prop) (M : MS) : Prop := w4_holds (2 : Int32) M (fun r_5 M_4 => vz r_5 ∧ Post r_5 M_4)
def w4_finds_c55 (a1 : Int32) (a2 : Int32) (Post : Int32 → MS → Prop) (t0 : Int64) (t1 : Int32) (M : MS) : Prop := (vp_in t1 (mN 62) ∧ ∀ M_8 : MS, M_8 = sb M 62 (Int32.toNatClampNeg t1) t0 → w4_finds_c64 a1 a2 Post M_8)
def w4_finds (a1 : Int32) (a2 : Int32) (M : MS) (Post : Int32 → MS → Prop) : Prop := (a2 = 0 → (w4_namesByPage a1 M (fun M_9 => w4_finds_c64 a1 a2 Post M_9))) ∧ (¬ (a2 = 0) → ((a2 = (1 : Int32) → (w4_namesByTalk a1 (1 : Int32) M (fun M_6 => (vp_in a1 (mN 30) ∧ ((ma M_6 30 (Int32.toNatClampNeg a1)) < 0 → (w4_finds_c55 a1 a2 Post (0 : Int64) (1 : Int32) M_6)) ∧ (¬ ((ma M_6 30 (Int32.toNatClampNeg a1)) < 0) → ((vp_in a1 (mN 29) ∧ (vp_in a1 (mN 30) ∧ w4_finds_c55 a1 a2 Post (((ma M_6 29 (Int32.toNatClampNeg a1)) - (ma M_6 30 (Int32.toNatClampNeg a1))).toInt64) (1 : Int32) M_6)))))))) ∧ (¬ (a2 = (1 : Int32)) → (w4_namesByBoth a1 M (fun M_3 => w4_finds_c64 a1 a2 Post M_3)))))
abbrev rX4_finds : Room := { frames := 7, cells := 0, slots := 0, locals := 162 }
theorem cdX4_finds : yX4_finds.cls = RX4 ∧ yX4_finds.cls ≠ "java/lang/invoke/MethodHandle" ∧ yX4_finds.cls ≠ "java/lang/invoke/VarHandle" ∧ (parseMethodDescriptor yX4_finds.desc).map (fun d => d.parameters.length) = some 2 := by decide +kernel
set_option maxHeartbeats 4000000 in
set_option maxRecDepth 100000 in
theorem mt4_finds (l : Launch) {D : va_G} {cA : Nat → ClassId} {m0 : Nat} {ad : Nat → Nat} (hA : mAd m0 ad) (a1 : Int32) (a2 : Int32) (M : MS) (Post : Int32 → MS → Prop) (h : w4_finds a1 a2 M Post) : Met l yX4_finds (ws_ yX4_finds cX4_finds 3 (some .boolean)) rX4_finds (mPc [.ref m0, .int a1, .int a2] D cA m0 ad M) (va_Qi Post (mB D cA m0 ad) (mF m0 ad)) 0 0 (mF m0 ad) := by
  refine mst_i (own := RX4) (by decide) rfl (Nat.le_of_ble_eq_true rfl) ?_
  intro p e s m args below meth c Q ls S hK hP hS hl hret
  have hx := S.1
  have hb := S.2.1
  have hl : lv_has ls 3 [(0, .ref m0), (1, .int a1), (2, .int a2)] := hl
  have C64 : ∀ (M : MS) (H : Heap) (locs : List Loc) (ls : Array Slot), va_P D vwCl (mo cA m0 ad M) H → va_S (mF m0 ad) s.heap H locs → lv_has ls 3 [(0, .ref m0)] → w4_finds_c64 a1 a2 Post M → W p l e rX4_finds s m args below meth c H locs 0 0 Q (F0 m 64 ls []) := by
    intro M H locs ls hP hS hl h
    unfold w4_finds_c64 at h
    refine lv_aload_n hx hb dX4_finds_64 rfl (lv_at hl 0 rfl) ?_
    refine lv_iconst hx hb dX4_finds_65 kc_2 ?_
    refine mc_i S hK hP hS (As := [.int (2 : Int32)]) (rest := []) (mt4_holds l hA (2 : Int32) M _ h) (cwV 1 S.2.2.2.2 (lw_V q2042 q2044 qs135 q145 q2045) rfl rfl rfl cdX4_holds ⟨Nat.le_of_ble_eq_true rfl, Nat.le_of_ble_eq_true rfl⟩) rfl rfl hl.1 (Nat.le_of_ble_eq_true rfl) dX4_finds_66 ⟨Nat.le_refl _, Nat.le_refl _⟩ (fun r_5 M_4 H locs h hP hS => ?_)
    exact hret _ _ _ _ _ _ hP hS h.2 (vz_nar h.1) dX4_finds_69
  have C55 : ∀ (t0 : Int64) (t1 : Int32) (M : MS) (H : Heap) (locs : List Loc) (ls : Array Slot), va_P D vwCl (mo cA m0 ad M) H → va_S (mF m0 ad) s.heap H locs → lv_has ls 3 [(0, .ref m0)] → w4_finds_c55 a1 a2 Post t0 t1 M → W p l e rX4_finds s m args below meth c H locs 0 0 Q (F0 m 55 ls [.long t0, .int t1, .ref (ad 62)]) := by
    intro t0 t1 M H locs ls hP hS hl h
    unfold w4_finds_c55 at h
    obtain ⟨hi, h⟩ := h
    refine ms_b S hK hA hP hS (k := 62) af_62 rfl hi dX4_finds_55 (fun M_8 H locs e_M_8 hP hS => ?_)
    replace h := h M_8 e_M_8
    refine lv_goto (tgt := 64) hx hb dX4_finds_56 (by decide) ?_
    exact C64 _ _ _ _ hP hS (lv_sub hl [0] rfl) h
  unfold w4_finds at h
  refine lv_iload_n hx hb dX4_finds_0 rfl (lv_at hl 2 rfl) ?_
  refine lv_if_ne (tgt := 12) hx hb dX4_finds_1 (by decide) (fun c_1 => ?_) (fun c_1 => ?_)
  · replace h := h.2 c_1
    refine lv_iload_n hx hb dX4_finds_12 rfl (lv_at hl 2 rfl) ?_
    refine lv_iconst hx hb dX4_finds_13 kc_1 ?_
    refine lv_icmp_ne (tgt := 59) hx hb dX4_finds_14 (by decide) (fun c_2 => ?_) (fun c_2 => ?_)
    · replace h := h.2 c_2
      refine lv_aload_n hx hb dX4_finds_59 rfl (lv_at hl 0 rfl) ?_
      refine lv_iload_n hx hb dX4_finds_60 rfl (lv_at hl 1 rfl) ?_
      refine mc_v S hK hP hS (As := [.int a1]) (rest := []) (mt4_namesByBoth l hA a1 M _ h) (cwV 1 S.2.2.2.2 (lw_V q2026 q2028 qs131 q145 q2029) rfl rfl rfl cdX4_namesByBoth ⟨Nat.le_of_ble_eq_true rfl, Nat.le_of_ble_eq_true rfl⟩) rfl rfl hl.1 (Nat.le_of_ble_eq_true rfl) dX4_finds_61 ⟨Nat.le_refl _, Nat.le_refl _⟩ (fun M_3 H locs h hP hS => ?_)
      exact C64 _ _ _ _ hP hS (lv_sub hl [0] rfl) h
    · replace h := h.1 c_2
      refine lv_aload_n hx hb dX4_finds_17 rfl (lv_at hl 0 rfl) ?_
      refine lv_iload_n hx hb dX4_finds_18 rfl (lv_at hl 1 rfl) ?_
      refine lv_iconst hx hb dX4_finds_19 kc_1 ?_
      refine mc_v S hK hP hS (As := [.int a1, .int (1 : Int32)]) (rest := []) (mt4_namesByTalk l hA a1 (1 : Int32) M _ h) (cwV 2 S.2.2.2.2 (lw_V q2030 q2032 qs132 q145 q2033) rfl rfl rfl cdX4_namesByTalk ⟨Nat.le_of_ble_eq_true rfl, Nat.le_of_ble_eq_true rfl⟩) rfl rfl hl.1 (Nat.le_of_ble_eq_true rfl) dX4_finds_20 ⟨Nat.le_refl _, Nat.le_refl _⟩ (fun M_6 H locs h hP hS => ?_)
      refine lv_aload_n hx hb dX4_finds_23 rfl (lv_at hl 0 rfl) ?_
      refine mg_r S hK hP (k := 62) (by decide) (by decide) q1482 dX4_finds_24 ?_
      refine lv_iconst hx hb dX4_finds_27 kc_1 ?_
      refine lv_aload_n hx hb dX4_finds_28 rfl (lv_at hl 0 rfl) ?_
      refine mg_r S hK hP (k := 30) (by decide) (by decide) q1450 dX4_finds_29 ?_
      refine lv_iload_n hx hb dX4_finds_32 rfl (lv_at hl 1 rfl) ?_
      obtain ⟨hi, h⟩ := h
      refine ml_a S hK hP (k := 30) af_30 rfl hi dX4_finds_33 ?_
      refine lv_if_lt (tgt := 54) hx hb dX4_finds_34 (by decide) (fun c_7 => ?_) (fun c_7 => ?_)
      · replace h := h.1 c_7
        refine lv_lconst (v := 0) hx hb dX4_finds_54 rfl ?_
        exact C55 _ _ _ _ _ _ hP hS (lv_sub hl [0] rfl) h
      · replace h := h.2 c_7
        refine lv_aload_n hx hb dX4_finds_37 rfl (lv_at hl 0 rfl) ?_
        refine mg_r S hK hP (k := 29) (by decide) (by decide) q1449 dX4_finds_38 ?_
        refine lv_iload_n hx hb dX4_finds_41 rfl (lv_at hl 1 rfl) ?_
        obtain ⟨hi, h⟩ := h
        refine ml_a S hK hP (k := 29) af_29 rfl hi dX4_finds_42 ?_
        refine lv_aload_n hx hb dX4_finds_43 rfl (lv_at hl 0 rfl) ?_
        refine mg_r S hK hP (k := 30) (by decide) (by decide) q1450 dX4_finds_44 ?_
        refine lv_iload_n hx hb dX4_finds_47 rfl (lv_at hl 1 rfl) ?_
        obtain ⟨hi, h⟩ := h
        refine ml_a S hK hP (k := 30) af_30 rfl hi dX4_finds_48 ?_
        refine lv_isub hx hb dX4_finds_49 ?_
        refine lv_i2l hx hb dX4_finds_50 rfl ?_
        refine lv_goto (tgt := 55) hx hb dX4_finds_51 (by decide) ?_
        exact C55 _ _ _ _ _ _ hP hS (lv_sub hl [0] rfl) h
  · replace h := h.1 c_1
    refine lv_aload_n hx hb dX4_finds_4 rfl (lv_at hl 0 rfl) ?_
    refine lv_iload_n hx hb dX4_finds_5 rfl (lv_at hl 1 rfl) ?_
    refine mc_v S hK hP hS (As := [.int a1]) (rest := []) (mt4_namesByPage l hA a1 M _ h) (cwV 1 S.2.2.2.2 (lw_V q2054 q2056 qs137 q145 q2057) rfl rfl rfl cdX4_namesByPage ⟨Nat.le_of_ble_eq_true rfl, Nat.le_of_ble_eq_true rfl⟩) rfl rfl hl.1 (Nat.le_of_ble_eq_true rfl) dX4_finds_6 ⟨Nat.le_refl _, Nat.le_refl _⟩ (fun M_9 H locs h hP hS => ?_)
    refine lv_goto (tgt := 64) hx hb dX4_finds_9 (by decide) ?_
    exact C64 _ _ _ _ hP hS (lv_sub hl [0] rfl) h
def w4_jury (a1 : Int32) (a2 : Int32) (M : MS) (Post : Int32 → MS → Prop) : Prop := ∀ M_1 : MS, M_1 = si M 2 (0 : Int32) → w4_isTeller a1 M_1 (fun r_3 M_2 => (r_3 = 0 → (Post (-1 : Int32) M_2)) ∧ (¬ (r_3 = 0) → (w4_isIn a2 (0 : Int32) (2 : Int32) (fun r_5 => (r_5 = 0 → (Post (-1 : Int32) M_2)) ∧ (¬ (r_5 = 0) → (w4_finds a1 a2 M_2 (fun r_8 M_7 => (r_8 = 0 → (Post (0 : Int32) M_7)) ∧ (¬ (r_8 = 0) → (Post (1 : Int32) M_7)))))))))
abbrev rX4_jury : Room := { frames := 8, cells := 0, slots := 0, locals := 184 }
theorem cdX4_jury : yX4_jury.cls = RX4 ∧ yX4_jury.cls ≠ "java/lang/invoke/MethodHandle" ∧ yX4_jury.cls ≠ "java/lang/invoke/VarHandle" ∧ (parseMethodDescriptor yX4_jury.desc).map (fun d => d.parameters.length) = some 2 := by decide +kernel
set_option maxHeartbeats 4000000 in
set_option maxRecDepth 100000 in
theorem mt4_jury (l : Launch) {D : va_G} {cA : Nat → ClassId} {m0 : Nat} {ad : Nat → Nat} (hA : mAd m0 ad) (a1 : Int32) (a2 : Int32) (M : MS) (Post : Int32 → MS → Prop) (h : w4_jury a1 a2 M Post) : Met l yX4_jury (ws_ yX4_jury cX4_jury 3 (some .int)) rX4_jury (mPc [.ref m0, .int a1, .int a2] D cA m0 ad M) (va_Qi Post (mB D cA m0 ad) (mF m0 ad)) 0 0 (mF m0 ad) := by
  refine mst_i (own := RX4) (by decide) rfl (Nat.le_of_ble_eq_true rfl) ?_
  intro p e s m args below meth c Q ls S hK hP hS hl hret
  have hx := S.1
  have hb := S.2.1
  have hl : lv_has ls 3 [(0, .ref m0), (1, .int a1), (2, .int a2)] := hl
  unfold w4_jury at h
  refine lv_aload_n hx hb dX4_jury_0 rfl (lv_at hl 0 rfl) ?_
  refine lv_iconst hx hb dX4_jury_1 kc_0 ?_
  refine mp_i S hK hA hP hS (k := 2) (by decide) (Or.inl rfl) rfl (Or.inl ⟨rfl, rfl⟩) q1422 dX4_jury_2 (fun M_1 H locs e_M_1 hP hS => ?_)
  replace h := h M_1 e_M_1
  refine lv_aload_n hx hb dX4_jury_5 rfl (lv_at hl 0 rfl) ?_
  refine lv_iload_n hx hb dX4_jury_6 rfl (lv_at hl 1 rfl) ?_
  refine mc_i S hK hP hS (As := [.int a1]) (rest := []) (mt4_isTeller l hA a1 M_1 _ h) (cwV 1 S.2.2.2.2 (lw_V q1771 q1773 qs95 q145 q1774) rfl rfl rfl cdX4_isTeller ⟨Nat.le_of_ble_eq_true rfl, Nat.le_of_ble_eq_true rfl⟩) rfl rfl hl.1 (Nat.le_of_ble_eq_true rfl) dX4_jury_7 ⟨Nat.le_refl _, Nat.le_refl _⟩ (fun r_3 M_2 H locs h hP hS => ?_)
  refine lv_if_eq (tgt := 22) hx hb dX4_jury_10 (by decide) (fun c_4 => ?_) (fun c_4 => ?_)
  · replace h := h.1 c_4
    refine lv_iconst hx hb dX4_jury_22 kc_m1 ?_
    refine lv_goto (tgt := 40) hx hb dX4_jury_23 (by decide) ?_
    exact hret _ _ _ _ _ _ hP hS h rfl dX4_jury_40
  · replace h := h.2 c_4
    refine lv_iload_n hx hb dX4_jury_13 rfl (lv_at hl 2 rfl) ?_
    refine lv_iconst hx hb dX4_jury_14 kc_0 ?_
    refine lv_iconst hx hb dX4_jury_15 kc_2 ?_
    refine sc_i S (As := [.int a2, .int (0 : Int32), .int (2 : Int32)]) (rest := []) (mt4_isIn l a2 (0 : Int32) (2 : Int32) _ h) (va_cwS 3 S.2.2.2.2 (lw_S q1795 q1796 q145 q1797) rfl rfl rfl cdX4_isIn ⟨Nat.le_of_ble_eq_true rfl, Nat.le_of_ble_eq_true rfl⟩) rfl rfl hl.1 (Nat.le_of_ble_eq_true rfl) dX4_jury_16 ⟨Nat.le_refl _, Nat.le_refl _⟩ (fun r_5 h => ?_)
    refine lv_if_ne (tgt := 26) hx hb dX4_jury_19 (by decide) (fun c_6 => ?_) (fun c_6 => ?_)
    · replace h := h.2 c_6
      refine lv_aload_n hx hb dX4_jury_26 rfl (lv_at hl 0 rfl) ?_
      refine lv_iload_n hx hb dX4_jury_27 rfl (lv_at hl 1 rfl) ?_
      refine lv_iload_n hx hb dX4_jury_28 rfl (lv_at hl 2 rfl) ?_
      refine mc_i S hK hP hS (As := [.int a1, .int a2]) (rest := []) (mt4_finds l hA a1 a2 M_2 _ h) (cwV 2 S.2.2.2.2 (lw_V q2050 q2052 qs136 q145 q2053) rfl rfl rfl cdX4_finds ⟨Nat.le_of_ble_eq_true rfl, Nat.le_of_ble_eq_true rfl⟩) rfl rfl hl.1 (Nat.le_of_ble_eq_true rfl) dX4_jury_29 ⟨Nat.le_refl _, Nat.le_refl _⟩ (fun r_8 M_7 H locs h hP hS => ?_)
      refine lv_if_eq (tgt := 39) hx hb dX4_jury_32 (by decide) (fun c_9 => ?_) (fun c_9 => ?_)
      · replace h := h.1 c_9
        refine lv_iconst hx hb dX4_jury_39 kc_0 ?_
        exact hret _ _ _ _ _ _ hP hS h rfl dX4_jury_40
      · replace h := h.2 c_9
        refine lv_iconst hx hb dX4_jury_35 kc_1 ?_
        refine lv_goto (tgt := 40) hx hb dX4_jury_36 (by decide) ?_
        exact hret _ _ _ _ _ _ hP hS h rfl dX4_jury_40
    · replace h := h.1 c_6
      refine lv_iconst hx hb dX4_jury_22 kc_m1 ?_
      refine lv_goto (tgt := 40) hx hb dX4_jury_23 (by decide) ?_
      exact hret _ _ _ _ _ _ hP hS h rfl dX4_jury_40
def w4_there_2 (a1 : Int32) (M : MS) (Post : Int32 → MS → Prop) : Prop := ∀ M_1 : MS, M_1 = si M 2 (0 : Int32) → w4_isSet a1 M_1 (fun r_3 M_2 => (r_3 = 0 → (Post (-1 : Int32) M_2)) ∧ (¬ (r_3 = 0) → (∀ M_5 : MS, M_5 = si M_2 46 a1 → w4_many a1 (fun r_6 => Post r_6 M_5))))
abbrev rX4_there_2 : Room := { frames := 1, cells := 0, slots := 0, locals := 22 }
theorem cdX4_there_2 : yX4_there_2.cls = RX4 ∧ yX4_there_2.cls ≠ "java/lang/invoke/MethodHandle" ∧ yX4_there_2.cls ≠ "java/lang/invoke/VarHandle" ∧ (parseMethodDescriptor yX4_there_2.desc).map (fun d => d.parameters.length) = some 1 := by decide +kernel
set_option maxHeartbeats 4000000 in
set_option maxRecDepth 100000 in
theorem mt4_there_2 (l : Launch) {D : va_G} {cA : Nat → ClassId} {m0 : Nat} {ad : Nat → Nat} (hA : mAd m0 ad) (a1 : Int32) (M : MS) (Post : Int32 → MS → Prop) (h : w4_there_2 a1 M Post) : Met l yX4_there_2 (ws_ yX4_there_2 cX4_there_2 2 (some .int)) rX4_there_2 (mPc [.ref m0, .int a1] D cA m0 ad M) (va_Qi Post (mB D cA m0 ad) (mF m0 ad)) 0 0 (mF m0 ad) := by
  refine mst_i (own := RX4) (by decide) rfl (Nat.le_of_ble_eq_true rfl) ?_
  intro p e s m args below meth c Q ls S hK hP hS hl hret
  have hx := S.1
  have hb := S.2.1
  have hl : lv_has ls 2 [(0, .ref m0), (1, .int a1)] := hl
  unfold w4_there_2 at h
  refine lv_aload_n hx hb dX4_there_2_0 rfl (lv_at hl 0 rfl) ?_
  refine lv_iconst hx hb dX4_there_2_1 kc_0 ?_
  refine mp_i S hK hA hP hS (k := 2) (by decide) (Or.inl rfl) rfl (Or.inl ⟨rfl, rfl⟩) q1422 dX4_there_2_2 (fun M_1 H locs e_M_1 hP hS => ?_)
  replace h := h M_1 e_M_1
  refine lv_aload_n hx hb dX4_there_2_5 rfl (lv_at hl 0 rfl) ?_
  refine lv_iload_n hx hb dX4_there_2_6 rfl (lv_at hl 1 rfl) ?_
  refine mc_i S hK hP hS (As := [.int a1]) (rest := []) (mt4_isSet l hA a1 M_1 _ h) (cwV 1 S.2.2.2.2 (lw_V q1940 q1942 qs116 q145 q1943) rfl rfl rfl cdX4_isSet ⟨Nat.le_of_ble_eq_true rfl, Nat.le_of_ble_eq_true rfl⟩) rfl rfl hl.1 (Nat.le_of_ble_eq_true rfl) dX4_there_2_7 ⟨Nat.le_refl _, Nat.le_refl _⟩ (fun r_3 M_2 H locs h hP hS => ?_)
  refine lv_if_ne (tgt := 15) hx hb dX4_there_2_10 (by decide) (fun c_4 => ?_) (fun c_4 => ?_)
  · replace h := h.2 c_4
    refine lv_aload_n hx hb dX4_there_2_15 rfl (lv_at hl 0 rfl) ?_
    refine lv_iload_n hx hb dX4_there_2_16 rfl (lv_at hl 1 rfl) ?_
    refine mp_i S hK hA hP hS (k := 46) (by decide) (Or.inl rfl) rfl (Or.inl ⟨rfl, rfl⟩) q1466 dX4_there_2_17 (fun M_5 H locs e_M_5 hP hS => ?_)
    replace h := h M_5 e_M_5
    refine lv_iload_n hx hb dX4_there_2_20 rfl (lv_at hl 1 rfl) ?_
    refine sc_i S (As := [.int a1]) (rest := []) (mt4_many l a1 _ h) (va_cwS 1 S.2.2.2.2 (lw_S q1933 q1934 q145 q1935) rfl rfl rfl cdX4_many ⟨Nat.le_of_ble_eq_true rfl, Nat.le_of_ble_eq_true rfl⟩) rfl rfl hl.1 (Nat.le_of_ble_eq_true rfl) dX4_there_2_21 ⟨Nat.le_refl _, Nat.le_refl _⟩ (fun r_6 h => ?_)
    exact hret _ _ _ _ _ _ hP hS h rfl dX4_there_2_24
  · replace h := h.1 c_4
    refine lv_iconst hx hb dX4_there_2_13 kc_m1 ?_
    exact hret _ _ _ _ _ _ hP hS h rfl dX4_there_2_14
def w4_found_c67 (a1 : Int32) (a2 : Int32) (k30 : Int32 → Int32 → MS → Prop) (Post : Int32 → MS → Prop) (x4 : Int32) (t0 : Int32) (t1 : Int32) (M : MS) : Prop := ∀ v_11 : Int32, v_11 = t1 ||| t0 → ∀ v_12 : Int32, v_12 = x4 + (1 : Int32) → k30 v_11 v_12 M
def w4_found_c66 (a1 : Int32) (a2 : Int32) (k30 : Int32 → Int32 → MS → Prop) (Post : Int32 → MS → Prop) (x4 : Int32) (t0 : Int32) (M : MS) : Prop := w4_found_c67 a1 a2 k30 Post x4 (0 : Int32) t0 M
def w4_found_l30 (a1 : Int32) (a2 : Int32) (Post : Int32 → MS → Prop) : Nat → Int32 → Int32 → MS → Prop
  | 0, _, _, _ => False
  | n + 1, x3, x4, M => ((mi M 12) ≤ x4 → ((a2 = 0 → (Post (x3 &&& ((mi M 46) ^^^ (-1 : Int32))) M)) ∧ (¬ (a2 = 0) → (Post ((mi M 46) &&& (x3 ^^^ (-1 : Int32))) M)))) ∧ (¬ ((mi M 12) ≤ x4) → (w4_finds x4 a1 M (fun r_9 M_8 => (r_9 = 0 → (w4_found_c66 a1 a2 (w4_found_l30 a1 a2 Post n) Post x4 x3 M_8)) ∧ (¬ (r_9 = 0) → (w4_isBarred x4 M_8 (fun r_14 M_13 => (r_14 = 0 → (w4_found_c67 a1 a2 (w4_found_l30 a1 a2 Post n) Post x4 ((1 : Int32) <<< (x4 &&& (31 : Int32))) x3 M_13)) ∧ (¬ (r_14 = 0) → (w4_found_c66 a1 a2 (w4_found_l30 a1 a2 Post n) Post x4 x3 M_13))))))))
def w4_found (a1 : Int32) (a2 : Int32) (M : MS) (Post : Int32 → MS → Prop) : Prop := ∀ M_1 : MS, M_1 = si M 2 (0 : Int32) → w4_isIn a1 (0 : Int32) (2 : Int32) (fun r_2 => (r_2 = 0 → (Post (-1 : Int32) M_1)) ∧ (¬ (r_2 = 0) → (w4_isIn a2 (0 : Int32) (1 : Int32) (fun r_4 => (r_4 = 0 → (Post (-1 : Int32) M_1)) ∧ (¬ (r_4 = 0) → (∃ f, w4_found_l30 a1 a2 Post f (0 : Int32) (0 : Int32) M_1))))))
abbrev rX4_found : Room := { frames := 8, cells := 0, slots := 0, locals := 184 }
theorem cdX4_found : yX4_found.cls = RX4 ∧ yX4_found.cls ≠ "java/lang/invoke/MethodHandle" ∧ yX4_found.cls ≠ "java/lang/invoke/VarHandle" ∧ (parseMethodDescriptor yX4_found.desc).map (fun d => d.parameters.length) = some 2 := by decide +kernel
set_option maxHeartbeats 4000000 in
set_option maxRecDepth 100000 in
theorem mt4_found (l : Launch) {D : va_G} {cA : Nat → ClassId} {m0 : Nat} {ad : Nat → Nat} (hA : mAd m0 ad) (a1 : Int32) (a2 : Int32) (M : MS) (Post : Int32 → MS → Prop) (h : w4_found a1 a2 M Post) : Met l yX4_found (ws_ yX4_found cX4_found 5 (some .int)) rX4_found (mPc [.ref m0, .int a1, .int a2] D cA m0 ad M) (va_Qi Post (mB D cA m0 ad) (mF m0 ad)) 0 0 (mF m0 ad) := by
  refine mst_i (own := RX4) (by decide) rfl (Nat.le_of_ble_eq_true rfl) ?_
  intro p e s m args below meth c Q ls S hK hP hS hl hret
  have hx := S.1
  have hb := S.2.1
  have hl : lv_has ls 5 [(0, .ref m0), (1, .int a1), (2, .int a2)] := hl
  have C67 : ∀ (k30 : Int32 → Int32 → MS → Prop) (K30 : (∀ (x3 : Int32) (x4 : Int32) (M : MS) (H : Heap) (locs : List Loc) (ls : Array Slot), va_P D vwCl (mo cA m0 ad M) H → va_S (mF m0 ad) s.heap H locs → lv_has ls 5 [(0, .ref m0), (1, .int a1), (2, .int a2), (3, .int x3), (4, .int x4)] → k30 x3 x4 M → W p l e rX4_found s m args below meth c H locs 0 0 Q (F0 m 30 ls []))), ∀ (x4 : Int32) (t0 : Int32) (t1 : Int32) (M : MS) (H : Heap) (locs : List Loc) (ls : Array Slot), va_P D vwCl (mo cA m0 ad M) H → va_S (mF m0 ad) s.heap H locs → lv_has ls 5 [(0, .ref m0), (1, .int a1), (2, .int a2), (4, .int x4)] → w4_found_c67 a1 a2 k30 Post x4 t0 t1 M → W p l e rX4_found s m args below meth c H locs 0 0 Q (F0 m 67 ls [.int t0, .int t1]) := by
    intro k30 K30
    intro x4 t0 t1 M H locs ls hP hS hl h
    unfold w4_found_c67 at h
    refine lv_ior hx hb dX4_found_67 ?_
    refine lv_topi (fun v_11 e_v_11 => ?_)
    replace h := h v_11 e_v_11
    refine lv_istore_n (lv' := [(3, .int v_11), (0, .ref m0), (1, .int a1), (2, .int a2), (4, .int x4)]) hx hb dX4_found_68 rfl hl (by decide) rfl (fun ls hl => ?_)
    obtain ⟨v_12, e_v_12⟩ : ∃ y : Int32, y = x4 + (1 : Int32) := ⟨_, rfl⟩
    replace h := h v_12 e_v_12
    refine lv_iinc (v := v_12) (lv' := [(4, .int v_12), (3, .int v_11), (0, .ref m0), (1, .int a1), (2, .int a2)]) hx hb dX4_found_69 hl (k := 4) rfl (by rw [kc_1, e_v_12]) (by decide) rfl (fun ls hl => ?_)
    refine lv_goto (tgt := 30) hx hb dX4_found_72 (by decide) ?_
    exact K30 _ _ _ _ _ _ hP hS (lv_sub hl [2, 3, 4, 1, 0] rfl) h
  have C66 : ∀ (k30 : Int32 → Int32 → MS → Prop) (K30 : (∀ (x3 : Int32) (x4 : Int32) (M : MS) (H : Heap) (locs : List Loc) (ls : Array Slot), va_P D vwCl (mo cA m0 ad M) H → va_S (mF m0 ad) s.heap H locs → lv_has ls 5 [(0, .ref m0), (1, .int a1), (2, .int a2), (3, .int x3), (4, .int x4)] → k30 x3 x4 M → W p l e rX4_found s m args below meth c H locs 0 0 Q (F0 m 30 ls []))), ∀ (x4 : Int32) (t0 : Int32) (M : MS) (H : Heap) (locs : List Loc) (ls : Array Slot), va_P D vwCl (mo cA m0 ad M) H → va_S (mF m0 ad) s.heap H locs → lv_has ls 5 [(0, .ref m0), (1, .int a1), (2, .int a2), (4, .int x4)] → w4_found_c66 a1 a2 k30 Post x4 t0 M → W p l e rX4_found s m args below meth c H locs 0 0 Q (F0 m 66 ls [.int t0]) := by
    intro k30 K30
    intro x4 t0 M H locs ls hP hS hl h
    unfold w4_found_c66 at h
    refine lv_iconst hx hb dX4_found_66 kc_0 ?_
    exact C67 _ K30 _ _ _ _ _ _ _ hP hS (lv_sub hl [0, 1, 2, 3] rfl) h
  have L30 : ∀ (n : Nat) (x3 : Int32) (x4 : Int32) (M : MS) (H : Heap) (locs : List Loc) (ls : Array Slot), va_P D vwCl (mo cA m0 ad M) H → va_S (mF m0 ad) s.heap H locs → lv_has ls 5 [(0, .ref m0), (1, .int a1), (2, .int a2), (3, .int x3), (4, .int x4)] → w4_found_l30 a1 a2 Post n x3 x4 M → W p l e rX4_found s m args below meth c H locs 0 0 Q (F0 m 30 ls []) := by
    intro n
    induction n with
    | zero => intro x3 x4 M H locs ls hP hS hl h; rw [w4_found_l30] at h; exact h.elim
    | succ n ih =>
      intro x3 x4 M H locs ls hP hS hl h
      rw [w4_found_l30] at h
      refine lv_iload hx hb dX4_found_30 (lv_at hl 4 rfl) ?_
      refine lv_aload_n hx hb dX4_found_32 rfl (lv_at hl 0 rfl) ?_
      refine mg_i S hK hP (k := 12) (by decide) (by decide) q1432 dX4_found_33 ?_
      refine lv_icmp_ge (tgt := 75) hx hb dX4_found_36 (by decide) (fun c_6 => ?_) (fun c_6 => ?_)
      · replace h := h.1 c_6
        refine lv_iload_n hx hb dX4_found_75 rfl (lv_at hl 2 rfl) ?_
        refine lv_if_ne (tgt := 90) hx hb dX4_found_76 (by decide) (fun c_7 => ?_) (fun c_7 => ?_)
        · replace h := h.2 c_7
          refine lv_aload_n hx hb dX4_found_90 rfl (lv_at hl 0 rfl) ?_
          refine mg_i S hK hP (k := 46) (by decide) (by decide) q1466 dX4_found_91 ?_
          refine lv_iload_n hx hb dX4_found_94 rfl (lv_at hl 3 rfl) ?_
          refine lv_iconst hx hb dX4_found_95 kc_m1 ?_
          refine lv_ixor hx hb dX4_found_96 ?_
          refine lv_iand hx hb dX4_found_97 ?_
          exact hret _ _ _ _ _ _ hP hS h rfl dX4_found_98
        · replace h := h.1 c_7
          refine lv_iload_n hx hb dX4_found_79 rfl (lv_at hl 3 rfl) ?_
          refine lv_aload_n hx hb dX4_found_80 rfl (lv_at hl 0 rfl) ?_
          refine mg_i S hK hP (k := 46) (by decide) (by decide) q1466 dX4_found_81 ?_
          refine lv_iconst hx hb dX4_found_84 kc_m1 ?_
          refine lv_ixor hx hb dX4_found_85 ?_
          refine lv_iand hx hb dX4_found_86 ?_
          refine lv_goto (tgt := 98) hx hb dX4_found_87 (by decide) ?_
          exact hret _ _ _ _ _ _ hP hS h rfl dX4_found_98
      · replace h := h.2 c_6
        refine lv_iload_n hx hb dX4_found_39 rfl (lv_at hl 3 rfl) ?_
        refine lv_aload_n hx hb dX4_found_40 rfl (lv_at hl 0 rfl) ?_
        refine lv_iload hx hb dX4_found_41 (lv_at hl 4 rfl) ?_
        refine lv_iload_n hx hb dX4_found_43 rfl (lv_at hl 1 rfl) ?_
        refine mc_i S hK hP hS (As := [.int x4, .int a1]) (rest := [.int x3]) (mt4_finds l hA x4 a1 M _ h) (cwV 2 S.2.2.2.2 (lw_V q2050 q2052 qs136 q145 q2053) rfl rfl rfl cdX4_finds ⟨Nat.le_of_ble_eq_true rfl, Nat.le_of_ble_eq_true rfl⟩) rfl rfl hl.1 (Nat.le_of_ble_eq_true rfl) dX4_found_44 ⟨Nat.le_refl _, Nat.le_refl _⟩ (fun r_9 M_8 H locs h hP hS => ?_)
        refine lv_if_eq (tgt := 66) hx hb dX4_found_47 (by decide) (fun c_10 => ?_) (fun c_10 => ?_)
        · replace h := h.1 c_10
          exact C66 _ ih _ _ _ _ _ _ hP hS (lv_sub hl [0, 1, 2, 4] rfl) h
        · replace h := h.2 c_10
          refine lv_aload_n hx hb dX4_found_50 rfl (lv_at hl 0 rfl) ?_
          refine lv_iload hx hb dX4_found_51 (lv_at hl 4 rfl) ?_
          refine mc_i S hK hP hS (As := [.int x4]) (rest := [.int x3]) (mt4_isBarred l hA x4 M_8 _ h) (cwV 1 S.2.2.2.2 (lw_V q2022 q2024 qs130 q145 q2025) rfl rfl rfl cdX4_isBarred ⟨Nat.le_of_ble_eq_true rfl, Nat.le_of_ble_eq_true rfl⟩) rfl rfl hl.1 (Nat.le_of_ble_eq_true rfl) dX4_found_53 ⟨Nat.le_refl _, Nat.le_refl _⟩ (fun r_14 M_13 H locs h hP hS => ?_)
          refine lv_if_ne (tgt := 66) hx hb dX4_found_56 (by decide) (fun c_15 => ?_) (fun c_15 => ?_)
          · replace h := h.2 c_15
            exact C66 _ ih _ _ _ _ _ _ hP hS (lv_sub hl [0, 1, 2, 4] rfl) h
          · replace h := h.1 c_15
            refine lv_iconst hx hb dX4_found_59 kc_1 ?_
            refine lv_iload hx hb dX4_found_60 (lv_at hl 4 rfl) ?_
            refine lv_ishl hx hb dX4_found_62 ?_
            refine lv_goto (tgt := 67) hx hb dX4_found_63 (by decide) ?_
            exact C67 _ ih _ _ _ _ _ _ _ hP hS (lv_sub hl [0, 1, 2, 4] rfl) h
  unfold w4_found at h
  refine lv_aload_n hx hb dX4_found_0 rfl (lv_at hl 0 rfl) ?_
  refine lv_iconst hx hb dX4_found_1 kc_0 ?_
  refine mp_i S hK hA hP hS (k := 2) (by decide) (Or.inl rfl) rfl (Or.inl ⟨rfl, rfl⟩) q1422 dX4_found_2 (fun M_1 H locs e_M_1 hP hS => ?_)
  replace h := h M_1 e_M_1
  refine lv_iload_n hx hb dX4_found_5 rfl (lv_at hl 1 rfl) ?_
  refine lv_iconst hx hb dX4_found_6 kc_0 ?_
  refine lv_iconst hx hb dX4_found_7 kc_2 ?_
  refine sc_i S (As := [.int a1, .int (0 : Int32), .int (2 : Int32)]) (rest := []) (mt4_isIn l a1 (0 : Int32) (2 : Int32) _ h) (va_cwS 3 S.2.2.2.2 (lw_S q1795 q1796 q145 q1797) rfl rfl rfl cdX4_isIn ⟨Nat.le_of_ble_eq_true rfl, Nat.le_of_ble_eq_true rfl⟩) rfl rfl hl.1 (Nat.le_of_ble_eq_true rfl) dX4_found_8 ⟨Nat.le_refl _, Nat.le_refl _⟩ (fun r_2 h => ?_)
  refine lv_if_eq (tgt := 23) hx hb dX4_found_11 (by decide) (fun c_3 => ?_) (fun c_3 => ?_)
  · replace h := h.1 c_3
    refine lv_iconst hx hb dX4_found_23 kc_m1 ?_
    exact hret _ _ _ _ _ _ hP hS h rfl dX4_found_24
  · replace h := h.2 c_3
    refine lv_iload_n hx hb dX4_found_14 rfl (lv_at hl 2 rfl) ?_
    refine lv_iconst hx hb dX4_found_15 kc_0 ?_
    refine lv_iconst hx hb dX4_found_16 kc_1 ?_
    refine sc_i S (As := [.int a2, .int (0 : Int32), .int (1 : Int32)]) (rest := []) (mt4_isIn l a2 (0 : Int32) (1 : Int32) _ h) (va_cwS 3 S.2.2.2.2 (lw_S q1795 q1796 q145 q1797) rfl rfl rfl cdX4_isIn ⟨Nat.le_of_ble_eq_true rfl, Nat.le_of_ble_eq_true rfl⟩) rfl rfl hl.1 (Nat.le_of_ble_eq_true rfl) dX4_found_17 ⟨Nat.le_refl _, Nat.le_refl _⟩ (fun r_4 h => ?_)
    refine lv_if_ne (tgt := 25) hx hb dX4_found_20 (by decide) (fun c_5 => ?_) (fun c_5 => ?_)
    · replace h := h.2 c_5
      refine lv_iconst hx hb dX4_found_25 kc_0 ?_
      refine lv_istore_n (lv' := [(3, .int (0 : Int32)), (0, .ref m0), (1, .int a1), (2, .int a2)]) hx hb dX4_found_26 rfl hl (by decide) rfl (fun ls hl => ?_)
      refine lv_iconst hx hb dX4_found_27 kc_0 ?_
      refine lv_istore (lv' := [(4, .int (0 : Int32)), (3, .int (0 : Int32)), (0, .ref m0), (1, .int a1), (2, .int a2)]) hx hb dX4_found_28 hl (by decide) rfl (fun ls hl => ?_)
      obtain ⟨f, h⟩ := h
      exact L30 f _ _ _ _ _ _ hP hS (lv_sub hl [2, 3, 4, 1, 0] rfl) h
    · replace h := h.1 c_5
      refine lv_iconst hx hb dX4_found_23 kc_m1 ?_
      exact hret _ _ _ _ _ _ hP hS h rfl dX4_found_24
def w4_count (a1 : Int32) (M : MS) (Post : Int32 → MS → Prop) : Prop := ∀ M_1 : MS, M_1 = si M 2 (0 : Int32) → (a1 = 0 → (Post (mi M_1 11) M_1)) ∧ (¬ a1 = 0 → (a1 = 1 → (Post (mi M_1 12) M_1)) ∧ (¬ a1 = 1 → (a1 = 2 → (Post (mi M_1 13) M_1)) ∧ (¬ a1 = 2 → (a1 = 3 → (w4_heardMany M_1 (fun r_7 M_6 => Post r_7 M_6))) ∧ (¬ a1 = 3 → (a1 = 4 → (Post (mi M_1 14) M_1)) ∧ (¬ a1 = 4 → (a1 = 5 → (Post (mi M_1 15) M_1)) ∧ (¬ a1 = 5 → (a1 = 6 → (Post (mi M_1 45) M_1)) ∧ (¬ a1 = 6 → (a1 = 7 → (Post (mi M_1 44) M_1)) ∧ (¬ a1 = 7 → Post (-1 : Int32) M_1))))))))
abbrev rX4_count : Room := { frames := 2, cells := 0, slots := 0, locals := 43 }
theorem cdX4_count : yX4_count.cls = RX4 ∧ yX4_count.cls ≠ "java/lang/invoke/MethodHandle" ∧ yX4_count.cls ≠ "java/lang/invoke/VarHandle" ∧ (parseMethodDescriptor yX4_count.desc).map (fun d => d.parameters.length) = some 1 := by decide +kernel
set_option maxHeartbeats 4000000 in
set_option maxRecDepth 100000 in
theorem mt4_count (l : Launch) {D : va_G} {cA : Nat → ClassId} {m0 : Nat} {ad : Nat → Nat} (hA : mAd m0 ad) (a1 : Int32) (M : MS) (Post : Int32 → MS → Prop) (h : w4_count a1 M Post) : Met l yX4_count (ws_ yX4_count cX4_count 2 (some .int)) rX4_count (mPc [.ref m0, .int a1] D cA m0 ad M) (va_Qi Post (mB D cA m0 ad) (mF m0 ad)) 0 0 (mF m0 ad) := by
  refine mst_i (own := RX4) (by decide) rfl (Nat.le_of_ble_eq_true rfl) ?_
  intro p e s m args below meth c Q ls S hK hP hS hl hret
  have hx := S.1
  have hb := S.2.1
  have hl : lv_has ls 2 [(0, .ref m0), (1, .int a1)] := hl
  unfold w4_count at h
  refine lv_aload_n hx hb dX4_count_0 rfl (lv_at hl 0 rfl) ?_
  refine lv_iconst hx hb dX4_count_1 kc_0 ?_
  refine mp_i S hK hA hP hS (k := 2) (by decide) (Or.inl rfl) rfl (Or.inl ⟨rfl, rfl⟩) q1422 dX4_count_2 (fun M_1 H locs e_M_1 hP hS => ?_)
  replace h := h M_1 e_M_1
  refine lv_iload_n hx hb dX4_count_5 rfl (lv_at hl 1 rfl) ?_
  by_cases c_2 : a1 = 0
  · replace h := h.1 c_2
    refine lv_tableIn (tgt := 52) hx hb dX4_count_6 (by rw [c_2]; decide) (by rw [c_2]; decide) (by rw [c_2]; rfl) (by decide) ?_
    refine lv_aload_n hx hb dX4_count_52 rfl (lv_at hl 0 rfl) ?_
    refine mg_i S hK hP (k := 11) (by decide) (by decide) q1431 dX4_count_53 ?_
    exact hret _ _ _ _ _ _ hP hS h rfl dX4_count_56
  · replace h := h.2 c_2
    by_cases c_3 : a1 = 1
    · replace h := h.1 c_3
      refine lv_tableIn (tgt := 57) hx hb dX4_count_6 (by rw [c_3]; decide) (by rw [c_3]; decide) (by rw [c_3]; rfl) (by decide) ?_
      refine lv_aload_n hx hb dX4_count_57 rfl (lv_at hl 0 rfl) ?_
      refine mg_i S hK hP (k := 12) (by decide) (by decide) q1432 dX4_count_58 ?_
      exact hret _ _ _ _ _ _ hP hS h rfl dX4_count_61
    · replace h := h.2 c_3
      by_cases c_4 : a1 = 2
      · replace h := h.1 c_4
        refine lv_tableIn (tgt := 62) hx hb dX4_count_6 (by rw [c_4]; decide) (by rw [c_4]; decide) (by rw [c_4]; rfl) (by decide) ?_
        refine lv_aload_n hx hb dX4_count_62 rfl (lv_at hl 0 rfl) ?_
        refine mg_i S hK hP (k := 13) (by decide) (by decide) q1433 dX4_count_63 ?_
        exact hret _ _ _ _ _ _ hP hS h rfl dX4_count_66
      · replace h := h.2 c_4
        by_cases c_5 : a1 = 3
        · replace h := h.1 c_5
          refine lv_tableIn (tgt := 67) hx hb dX4_count_6 (by rw [c_5]; decide) (by rw [c_5]; decide) (by rw [c_5]; rfl) (by decide) ?_
          refine lv_aload_n hx hb dX4_count_67 rfl (lv_at hl 0 rfl) ?_
          refine mc_i S hK hP hS (As := []) (rest := []) (mt4_heardMany l hA M_1 _ h) (cwV 0 S.2.2.2.2 (lw_V q1798 q1800 qs97 q145 q1801) rfl rfl rfl cdX4_heardMany ⟨Nat.le_of_ble_eq_true rfl, Nat.le_of_ble_eq_true rfl⟩) rfl rfl hl.1 (Nat.le_of_ble_eq_true rfl) dX4_count_68 ⟨Nat.le_refl _, Nat.le_refl _⟩ (fun r_7 M_6 H locs h hP hS => ?_)
          exact hret _ _ _ _ _ _ hP hS h rfl dX4_count_71
        · replace h := h.2 c_5
          by_cases c_8 : a1 = 4
          · replace h := h.1 c_8
            refine lv_tableIn (tgt := 72) hx hb dX4_count_6 (by rw [c_8]; decide) (by rw [c_8]; decide) (by rw [c_8]; rfl) (by decide) ?_
            refine lv_aload_n hx hb dX4_count_72 rfl (lv_at hl 0 rfl) ?_
            refine mg_i S hK hP (k := 14) (by decide) (by decide) q1434 dX4_count_73 ?_
            exact hret _ _ _ _ _ _ hP hS h rfl dX4_count_76
          · replace h := h.2 c_8
            by_cases c_9 : a1 = 5
            · replace h := h.1 c_9
              refine lv_tableIn (tgt := 77) hx hb dX4_count_6 (by rw [c_9]; decide) (by rw [c_9]; decide) (by rw [c_9]; rfl) (by decide) ?_
              refine lv_aload_n hx hb dX4_count_77 rfl (lv_at hl 0 rfl) ?_
              refine mg_i S hK hP (k := 15) (by decide) (by decide) q1435 dX4_count_78 ?_
              exact hret _ _ _ _ _ _ hP hS h rfl dX4_count_81
            · replace h := h.2 c_9
              by_cases c_10 : a1 = 6
              · replace h := h.1 c_10
                refine lv_tableIn (tgt := 82) hx hb dX4_count_6 (by rw [c_10]; decide) (by rw [c_10]; decide) (by rw [c_10]; rfl) (by decide) ?_
                refine lv_aload_n hx hb dX4_count_82 rfl (lv_at hl 0 rfl) ?_
                refine mg_i S hK hP (k := 45) (by decide) (by decide) q1465 dX4_count_83 ?_
                exact hret _ _ _ _ _ _ hP hS h rfl dX4_count_86
              · replace h := h.2 c_10
                by_cases c_11 : a1 = 7
                · replace h := h.1 c_11
                  refine lv_tableIn (tgt := 87) hx hb dX4_count_6 (by rw [c_11]; decide) (by rw [c_11]; decide) (by rw [c_11]; rfl) (by decide) ?_
                  refine lv_aload_n hx hb dX4_count_87 rfl (lv_at hl 0 rfl) ?_
                  refine mg_i S hK hP (k := 44) (by decide) (by decide) q1464 dX4_count_88 ?_
                  exact hret _ _ _ _ _ _ hP hS h rfl dX4_count_91
                · replace h := h.2 c_11
                  refine lv_tableOut (tgt := 92) hx hb dX4_count_6 (by have z0 := sw_n (n := 0) c_2 rfl; have z1 := sw_n (n := 1) c_3 rfl; have z2 := sw_n (n := 2) c_4 rfl; have z3 := sw_n (n := 3) c_5 rfl; have z4 := sw_n (n := 4) c_8 rfl; have z5 := sw_n (n := 5) c_9 rfl; have z6 := sw_n (n := 6) c_10 rfl; have z7 := sw_n (n := 7) c_11 rfl; omega) (by decide) ?_
                  refine lv_iconst hx hb dX4_count_92 kc_m1 ?_
                  exact hret _ _ _ _ _ _ hP hS h rfl dX4_count_93
