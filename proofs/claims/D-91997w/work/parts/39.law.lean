/-! THE CLAIM OUT OF ONE WALK OF THE LAW'S BODY. Your part is whole_start (and what it stands on); all else here is the same for every law, but numbers. -/
def R_law : String := "SaidSoLaw"
def lw_P (b : Addr) (xs : List Int32) (args : Array Value) (s : State) : Prop := args = #[.ref b] ∧ s.IntsAt b xs ∧ xs.length ≤ 384 ∧ (Jvm.Cond.and given_1 narrow_1).before args s = true
def lw_Q (_ : Array Value) (s : State) (o : Outcome) (t : State) : Prop := o = .returned (some (.int 1)) ∧ Framed s o t [] 1200384 5490858
def lw_Z (below : List Frame) (a : Array Value) (s : State) : State → Prop := fun t => ∃ o, t.status = .running ∧ Ended t below o ∧ lw_Q a s o t
/-- the law's own end, with 1 on the stack, nothing written that was there before, its room as the claim has it -/
theorem lw_ret {p : Program} {l : Launch} {e : Env} {s : State} {m : MethodId} {below : List Frame} {meth : Method} {c : Code} {b : Nat} (hx : p.tables.exec = Jvm.exec) (hb : c.code = code) (hr : meth.sig.returnType = ret) (hlocks : meth.locks = false) {pc : Nat} {H : Heap} {ls : Array Slot} (hdg : decode code pc = .ok (.ireturn, 1)) : W p l e room_1 s m #[Value.ref b] below meth c H [] 1200384 5490858 (lw_Z below #[Value.ref b] s) (F0 m pc ls [.int 1]) := by
  intro T hT X
  obtain ⟨fs, hret, hrun, hended, hW, hframe⟩ := X.leave (v := some (.int 1)) (hlocks := hlocks) (fun h => by rw [hr] at h; cases h)
  have hmeth' : T.vm.method? m = some meth := X.method'
  refine ⟨T.setFrames fs, ?_, .returned (some (.int 1)), hrun, hended, rfl, ⟨_, rfl⟩, hW, hframe⟩
  jvm_step X.here [X.here.top, hx, hb, hdg, hmeth', hr, ret, narrow_b1]
  (try refine ⟨rfl, ?_⟩); (try refine ⟨rfl, ?_⟩)
  first | (intro acts; rw [hret _ acts rfl rfl rfl]) | rw [hret _ _ rfl rfl rfl]
  exact Steps.refl _
/-- what holds at the law's entry: the machine, the code, the tables' words (any of lw_tbl by 'hts w (by decide +kernel)'), the script of L ints xs at the cell b, what the Statement gives of the start (any of its parts by flat_of_before) -/
def lw_At (p : Program) (s : State) (m : MethodId) (meth : Method) (c : Code) (b L : Nat) (xs : Nat → Int32) : Prop :=
  p.tables.exec = Jvm.exec ∧ c.code = code ∧ meth.sig.returnType = ret ∧ c.maxLocals = 7 ∧ s.vm.findClass R_law = some m.cls ∧ (∀ w ∈ lw_tbl, w.before #[Value.ref b] s = true) ∧ va_X b L xs s s.heap ∧ b < s.heap.size ∧ meth.locks = false ∧ (Jvm.Cond.and given_1 narrow_1).before #[Value.ref b] s = true
def vL_c1243 (cA : Nat → ClassId) (x out L : Nat) (xs : Nat → Int32) (k23 : Int32 → VS → MS → Nat → Nat → Prop) (x4 : Int32) (V : VS) (M : MS) (kc ks : Nat) : Prop := ∀ v_11 : Int32, v_11 = x4 + (6 : Int32) → k23 v_11 V M kc ks
def vL_c405 (cA : Nat → ClassId) (x out L : Nat) (xs : Nat → Int32) (k23 : Int32 → VS → MS → Nat → Nat → Prop) (x4 : Int32) (V : VS) (M : MS) (kc ks : Nat) : Prop := vL_c1243 cA x out L xs k23 x4 V M kc ks
def vL_c539 (cA : Nat → ClassId) (x out L : Nat) (xs : Nat → Int32) (k23 : Int32 → VS → MS → Nat → Nat → Prop) (x4 : Int32) (t0 : Int32) (t2 : Int32) (V : VS) (M : MS) (kc ks : Nat) : Prop := (vp_in (x4 + (2 : Int32)) L ∧ (vp_in (x4 + (3 : Int32)) L ∧ (vp_in (x4 + (4 : Int32)) L ∧ (vp_in (x4 + (5 : Int32)) L ∧ w4_say t0 (xs (Int32.toNatClampNeg (x4 + (2 : Int32)))) (xs (Int32.toNatClampNeg (x4 + (3 : Int32)))) (xs (Int32.toNatClampNeg (x4 + (4 : Int32)))) (xs (Int32.toNatClampNeg (x4 + (5 : Int32)))) M (fun r_77 M_78 => (t2 = r_77 → (vL_c1243 cA x out L xs k23 x4 V M_78 kc ks)) ∧ (¬ (t2 = r_77) → (False)))))))
def vL_c497 (cA : Nat → ClassId) (x out L : Nat) (xs : Nat → Int32) (k23 : Int32 → VS → MS → Nat → Nat → Prop) (x4 : Int32) (t0 : Int32) (V : VS) (M : MS) (kc ks : Nat) : Prop := (vp_in (x4 + (2 : Int32)) L ∧ (vp_in (x4 + (3 : Int32)) L ∧ (vp_in (x4 + (4 : Int32)) L ∧ (vp_in (x4 + (5 : Int32)) L ∧ ∃ mc_71 ms_72 : Nat, kc + mc_71 ≤ 1200384 ∧ ks + ms_72 ≤ 5490858 ∧ bO (vO V [1] x) (fun o_74 => vX1_say cA x t0 (xs (Int32.toNatClampNeg (x4 + (2 : Int32)))) (xs (Int32.toNatClampNeg (x4 + (3 : Int32)))) (xs (Int32.toNatClampNeg (x4 + (4 : Int32)))) (xs (Int32.toNatClampNeg (x4 + (5 : Int32)))) V mc_71 ms_72 (fun r_70 V_73 => (vp_in (x4 + (1 : Int32)) L ∧ ((xs (Int32.toNatClampNeg (x4 + (1 : Int32)))) = 0 → (vL_c539 cA x out L xs k23 x4 (0 : Int32) r_70 V_73 M (kc + mc_71) (ks + ms_72))) ∧ (¬ ((xs (Int32.toNatClampNeg (x4 + (1 : Int32)))) = 0) → (vL_c539 cA x out L xs k23 x4 (1 : Int32) r_70 V_73 M (kc + mc_71) (ks + ms_72))))))))))
def vL_l23 (cA : Nat → ClassId) (x out L : Nat) (xs : Nat → Int32) : Nat → Int32 → VS → MS → Nat → Nat → Prop
  | 0, _, _, _, _, _ => False
  | n + 1, x4, V, M, kc, ks => (((Int32.ofNat L) - (6 : Int32)) < x4 → (True)) ∧ (¬ (((Int32.ofNat L) - (6 : Int32)) < x4) → ((vp_in x4 L ∧ ∀ v_2 : Int32, v_2 = (xs (Int32.toNatClampNeg x4)) &&& (31 : Int32) → (v_2 = 0 → ((vp_in (x4 + (1 : Int32)) L ∧ (vp_in (x4 + (2 : Int32)) L ∧ (vp_in (x4 + (3 : Int32)) L ∧ (vp_in (x4 + (4 : Int32)) L ∧ (vp_in (x4 + (5 : Int32)) L ∧ bO (vO V [1] x) (fun o_6 => vX1_feed cA x (xs (Int32.toNatClampNeg (x4 + (1 : Int32)))) (xs (Int32.toNatClampNeg (x4 + (2 : Int32)))) (xs (Int32.toNatClampNeg (x4 + (3 : Int32)))) (xs (Int32.toNatClampNeg (x4 + (4 : Int32)))) (xs (Int32.toNatClampNeg (x4 + (5 : Int32)))) V (fun r_4 V_5 => (vp_in (x4 + (1 : Int32)) L ∧ (vp_in (x4 + (2 : Int32)) L ∧ (vp_in (x4 + (3 : Int32)) L ∧ (vp_in (x4 + (4 : Int32)) L ∧ (vp_in (x4 + (5 : Int32)) L ∧ w4_feed (xs (Int32.toNatClampNeg (x4 + (1 : Int32)))) (xs (Int32.toNatClampNeg (x4 + (2 : Int32)))) (xs (Int32.toNatClampNeg (x4 + (3 : Int32)))) (xs (Int32.toNatClampNeg (x4 + (4 : Int32)))) (xs (Int32.toNatClampNeg (x4 + (5 : Int32)))) M (fun r_8 M_9 => (r_4 = r_8 → (vL_c1243 cA x out L xs (vL_l23 cA x out L xs n) x4 V_5 M_9 kc ks)) ∧ (¬ (r_4 = r_8) → (False))))))))))))))))) ∧ (¬ v_2 = 0 → (v_2 = 1 → ((vp_in (x4 + (1 : Int32)) L ∧ ∃ mc_14 ms_15 : Nat, kc + mc_14 ≤ 1200384 ∧ ks + ms_15 ≤ 5490858 ∧ bO (vO V [1] x) (fun o_17 => vX1_tell cA x (xs (Int32.toNatClampNeg (x4 + (1 : Int32)))) V mc_14 ms_15 (fun r_13 V_16 => (vp_in (x4 + (1 : Int32)) L ∧ w4_tell (xs (Int32.toNatClampNeg (x4 + (1 : Int32)))) M (fun r_19 M_20 => (r_13 = r_19 → (vL_c1243 cA x out L xs (vL_l23 cA x out L xs n) x4 V_16 M_20 (kc + mc_14) (ks + ms_15))) ∧ (¬ (r_13 = r_19) → (False))))) (fun _ _ _ => False))))) ∧ (¬ v_2 = 1 → (v_2 = 2 → ((vp_in (x4 + (1 : Int32)) L ∧ bO (vO V [1] x) (fun o_25 => vX1_fault cA x (xs (Int32.toNatClampNeg (x4 + (1 : Int32)))) V (fun r_23 V_24 => (vp_in (x4 + (1 : Int32)) L ∧ w4_fault (xs (Int32.toNatClampNeg (x4 + (1 : Int32)))) M (fun r_27 M_28 => (r_23 = r_27 → (vL_c1243 cA x out L xs (vL_l23 cA x out L xs n) x4 V_24 M_28 kc ks)) ∧ (¬ (r_23 = r_27) → (False))))))))) ∧ (¬ v_2 = 2 → (v_2 = 3 → ((vp_in (x4 + (1 : Int32)) L ∧ (vp_in (x4 + (2 : Int32)) L ∧ bO (vO V [1] x) (fun o_33 => vX1_named cA x (xs (Int32.toNatClampNeg (x4 + (1 : Int32)))) (xs (Int32.toNatClampNeg (x4 + (2 : Int32)))) V (fun r_31 V_32 => (vp_in (x4 + (1 : Int32)) L ∧ (vp_in (x4 + (2 : Int32)) L ∧ w4_named (xs (Int32.toNatClampNeg (x4 + (1 : Int32)))) (xs (Int32.toNatClampNeg (x4 + (2 : Int32)))) M (fun r_35 M_36 => (r_31 = r_35 → (vL_c1243 cA x out L xs (vL_l23 cA x out L xs n) x4 V_32 M_36 kc ks)) ∧ (¬ (r_31 = r_35) → (False))))))))))) ∧ (¬ v_2 = 3 → (v_2 = 4 → ((vp_in (x4 + (1 : Int32)) L ∧ (vp_in (x4 + (2 : Int32)) L ∧ ∃ mc_40 ms_41 : Nat, kc + mc_40 ≤ 1200384 ∧ ks + ms_41 ≤ 5490858 ∧ vX0_look cA x (xs (Int32.toNatClampNeg (x4 + (1 : Int32)))) (xs (Int32.toNatClampNeg (x4 + (2 : Int32)))) out V mc_40 ms_41 (fun r_39 V_42 => (vp_in (x4 + (1 : Int32)) L ∧ (vp_in (x4 + (2 : Int32)) L ∧ w4_look (xs (Int32.toNatClampNeg (x4 + (1 : Int32)))) (xs (Int32.toNatClampNeg (x4 + (2 : Int32)))) M (fun r_43 M_44 => w4_thrown M_44 (fun r_45 M_46 => (r_45 = r_39 → ((r_39 = 0 → (bO (lJ V_42 (cA 2) out (0 : Int32)) (fun g_49 => (g_49 = r_43.toInt64 → (vL_c405 cA x out L xs (vL_l23 cA x out L xs n) x4 V_42 M_46 (kc + mc_40) (ks + ms_41))) ∧ (¬ (g_49 = r_43.toInt64) → (False))))) ∧ (¬ (r_39 = 0) → (vL_c405 cA x out L xs (vL_l23 cA x out L xs n) x4 V_42 M_46 (kc + mc_40) (ks + ms_41))))) ∧ (¬ (r_45 = r_39) → (False))))))) (fun _ _ _ => False))))) ∧ (¬ v_2 = 4 → (v_2 = 5 → ((vp_in (x4 + (1 : Int32)) L ∧ (vp_in (x4 + (2 : Int32)) L ∧ bO (vO V [1] x) (fun o_55 => vX1_teller cA x (xs (Int32.toNatClampNeg (x4 + (1 : Int32)))) (xs (Int32.toNatClampNeg (x4 + (2 : Int32)))) V (fun r_53 V_54 => (vp_in (x4 + (1 : Int32)) L ∧ (vp_in (x4 + (2 : Int32)) L ∧ w4_teller (xs (Int32.toNatClampNeg (x4 + (1 : Int32)))) (xs (Int32.toNatClampNeg (x4 + (2 : Int32)))) M (fun r_57 M_58 => (r_53 = r_57 → (vL_c1243 cA x out L xs (vL_l23 cA x out L xs n) x4 V_54 M_58 kc ks)) ∧ (¬ (r_53 = r_57) → (False))))))))))) ∧ (¬ v_2 = 5 → (v_2 = 6 → ((vp_in (x4 + (1 : Int32)) L ∧ (vp_in (x4 + (2 : Int32)) L ∧ bO (vO V [1] x) (fun o_63 => vX1_line cA x (xs (Int32.toNatClampNeg (x4 + (1 : Int32)))) (xs (Int32.toNatClampNeg (x4 + (2 : Int32)))) V (fun r_61 V_62 => (vp_in (x4 + (1 : Int32)) L ∧ (vp_in (x4 + (2 : Int32)) L ∧ w4_line (xs (Int32.toNatClampNeg (x4 + (1 : Int32)))) (xs (Int32.toNatClampNeg (x4 + (2 : Int32)))) M (fun r_65 M_66 => (r_61 = r_65 → (vL_c1243 cA x out L xs (vL_l23 cA x out L xs n) x4 V_62 M_66 kc ks)) ∧ (¬ (r_61 = r_65) → (False))))))))))) ∧ (¬ v_2 = 6 → (v_2 = 7 → ((vp_in (x4 + (1 : Int32)) L ∧ ((xs (Int32.toNatClampNeg (x4 + (1 : Int32)))) = 0 → (vL_c497 cA x out L xs (vL_l23 cA x out L xs n) x4 (0 : Int32) V M kc ks)) ∧ (¬ ((xs (Int32.toNatClampNeg (x4 + (1 : Int32)))) = 0) → (vL_c497 cA x out L xs (vL_l23 cA x out L xs n) x4 (1 : Int32) V M kc ks))))) ∧ (¬ v_2 = 7 → (v_2 = 8 → (bO (vO V [1] x) (fun o_83 => vX1_undo cA x V (fun r_81 V_82 => w4_undo M (fun r_85 M_86 => (r_81 = r_85 → (vL_c1243 cA x out L xs (vL_l23 cA x out L xs n) x4 V_82 M_86 kc ks)) ∧ (¬ (r_81 = r_85) → (False))))))) ∧ (¬ v_2 = 8 → (v_2 = 9 → ((vp_in (x4 + (1 : Int32)) L ∧ bO (vO V [1] x) (fun o_91 => vX1_hear cA x (xs (Int32.toNatClampNeg (x4 + (1 : Int32)))) V (fun r_89 V_90 => (vp_in (x4 + (1 : Int32)) L ∧ w4_hear (xs (Int32.toNatClampNeg (x4 + (1 : Int32)))) M (fun r_93 M_94 => (r_89 = r_93 → (vL_c1243 cA x out L xs (vL_l23 cA x out L xs n) x4 V_90 M_94 kc ks)) ∧ (¬ (r_89 = r_93) → (False))))))))) ∧ (¬ v_2 = 9 → (v_2 = 10 → ((vp_in (x4 + (1 : Int32)) L ∧ bO (vO V [1] x) (fun o_99 => vX1_word cA x (xs (Int32.toNatClampNeg (x4 + (1 : Int32)))) V (fun r_97 V_98 => (vp_in (x4 + (1 : Int32)) L ∧ w4_word (xs (Int32.toNatClampNeg (x4 + (1 : Int32)))) M (fun r_101 M_102 => (r_97 = r_101 → (vL_c1243 cA x out L xs (vL_l23 cA x out L xs n) x4 V_98 M_102 kc ks)) ∧ (¬ (r_97 = r_101) → (False))))))))) ∧ (¬ v_2 = 10 → (v_2 = 11 → ((vp_in (x4 + (1 : Int32)) L ∧ bO (vO V [1] x) (fun o_107 => vX1_led cA x (xs (Int32.toNatClampNeg (x4 + (1 : Int32)))) V (fun r_105 V_106 => (vp_in (x4 + (1 : Int32)) L ∧ w4_led (xs (Int32.toNatClampNeg (x4 + (1 : Int32)))) M (fun r_109 M_110 => (r_105 = r_109 → (vL_c1243 cA x out L xs (vL_l23 cA x out L xs n) x4 V_106 M_110 kc ks)) ∧ (¬ (r_105 = r_109) → (False))))))))) ∧ (¬ v_2 = 11 → (v_2 = 12 → ((vp_in (x4 + (1 : Int32)) L ∧ (vp_in (x4 + (2 : Int32)) L ∧ bO (vO V [1] x) (fun o_115 => vX1_words cA x (xs (Int32.toNatClampNeg (x4 + (1 : Int32)))) (xs (Int32.toNatClampNeg (x4 + (2 : Int32)))) V (fun r_113 V_114 => (vp_in (x4 + (1 : Int32)) L ∧ (vp_in (x4 + (2 : Int32)) L ∧ w4_words (xs (Int32.toNatClampNeg (x4 + (1 : Int32)))) (xs (Int32.toNatClampNeg (x4 + (2 : Int32)))) M (fun r_117 M_118 => (r_113 = r_117 → (vL_c1243 cA x out L xs (vL_l23 cA x out L xs n) x4 V_114 M_118 kc ks)) ∧ (¬ (r_113 = r_117) → (False))))))))))) ∧ (¬ v_2 = 12 → (v_2 = 13 → ((vp_in (x4 + (1 : Int32)) L ∧ bO (vO V [1] x) (fun o_123 => vX1_truth cA x (xs (Int32.toNatClampNeg (x4 + (1 : Int32)))) V (fun r_121 V_122 => (vp_in (x4 + (1 : Int32)) L ∧ w4_truth (xs (Int32.toNatClampNeg (x4 + (1 : Int32)))) M (fun r_125 M_126 => (r_121 = r_125 → (vL_c1243 cA x out L xs (vL_l23 cA x out L xs n) x4 V_122 M_126 kc ks)) ∧ (¬ (r_121 = r_125) → (False))))))))) ∧ (¬ v_2 = 13 → (v_2 = 14 → ((vp_in (x4 + (1 : Int32)) L ∧ (vp_in (x4 + (2 : Int32)) L ∧ bO (vO V [1] x) (fun o_131 => vX1_begin cA x (xs (Int32.toNatClampNeg (x4 + (1 : Int32)))) (xs (Int32.toNatClampNeg (x4 + (2 : Int32)))) V (fun r_129 V_130 => (vp_in (x4 + (1 : Int32)) L ∧ (vp_in (x4 + (2 : Int32)) L ∧ w4_begin (xs (Int32.toNatClampNeg (x4 + (1 : Int32)))) (xs (Int32.toNatClampNeg (x4 + (2 : Int32)))) M (fun r_133 M_134 => (r_129 = r_133 → (vL_c1243 cA x out L xs (vL_l23 cA x out L xs n) x4 V_130 M_134 kc ks)) ∧ (¬ (r_129 = r_133) → (False))))))))))) ∧ (¬ v_2 = 14 → (v_2 = 15 → ((vp_in (x4 + (1 : Int32)) L ∧ (vp_in (x4 + (2 : Int32)) L ∧ (vp_in (x4 + (3 : Int32)) L ∧ bO (vO V [1] x) (fun o_139 => vX1_odds cA x (xs (Int32.toNatClampNeg (x4 + (1 : Int32)))) (xs (Int32.toNatClampNeg (x4 + (2 : Int32)))) (xs (Int32.toNatClampNeg (x4 + (3 : Int32)))) V (fun r_137 V_138 => (vp_in (x4 + (1 : Int32)) L ∧ (vp_in (x4 + (2 : Int32)) L ∧ (vp_in (x4 + (3 : Int32)) L ∧ w4_odds (xs (Int32.toNatClampNeg (x4 + (1 : Int32)))) (xs (Int32.toNatClampNeg (x4 + (2 : Int32)))) (xs (Int32.toNatClampNeg (x4 + (3 : Int32)))) M (fun r_141 M_142 => (r_137 = r_141 → (vL_c1243 cA x out L xs (vL_l23 cA x out L xs n) x4 V_138 M_142 kc ks)) ∧ (¬ (r_137 = r_141) → (False))))))))))))) ∧ (¬ v_2 = 15 → (v_2 = 16 → ((vp_in (x4 + (1 : Int32)) L ∧ bO (vO V [1] x) (fun o_147 => vX1_page cA x (xs (Int32.toNatClampNeg (x4 + (1 : Int32)))) V (fun r_145 V_146 => (vp_in (x4 + (1 : Int32)) L ∧ w4_page (xs (Int32.toNatClampNeg (x4 + (1 : Int32)))) M (fun r_149 M_150 => (r_145 = r_149 → (vL_c1243 cA x out L xs (vL_l23 cA x out L xs n) x4 V_146 M_150 kc ks)) ∧ (¬ (r_145 = r_149) → (False))))))))) ∧ (¬ v_2 = 16 → (v_2 = 17 → ((vp_in (x4 + (1 : Int32)) L ∧ bO (vO V [1] x) (fun o_155 => vX1_left cA x (xs (Int32.toNatClampNeg (x4 + (1 : Int32)))) V (fun r_153 V_154 => (vp_in (x4 + (1 : Int32)) L ∧ w4_left (xs (Int32.toNatClampNeg (x4 + (1 : Int32)))) M (fun r_157 M_158 => (r_153 = r_157 → (vL_c1243 cA x out L xs (vL_l23 cA x out L xs n) x4 V_154 M_158 kc ks)) ∧ (¬ (r_153 = r_157) → (False))))))))) ∧ (¬ v_2 = 17 → (v_2 = 18 → ((vp_in (x4 + (1 : Int32)) L ∧ bO (vO V [1] x) (fun o_163 => vX1_moved cA x (xs (Int32.toNatClampNeg (x4 + (1 : Int32)))) V (fun r_161 V_162 => (vp_in (x4 + (1 : Int32)) L ∧ w4_moved (xs (Int32.toNatClampNeg (x4 + (1 : Int32)))) M (fun r_165 M_166 => (r_161 = r_165 → (vL_c1243 cA x out L xs (vL_l23 cA x out L xs n) x4 V_162 M_166 kc ks)) ∧ (¬ (r_161 = r_165) → (False))))))))) ∧ (¬ v_2 = 18 → (v_2 = 19 → ((vp_in (x4 + (1 : Int32)) L ∧ (vp_in (x4 + (2 : Int32)) L ∧ bO (vO V [1] x) (fun o_171 => vX1_story cA x (xs (Int32.toNatClampNeg (x4 + (1 : Int32)))) (xs (Int32.toNatClampNeg (x4 + (2 : Int32)))) V (fun r_169 V_170 => (vp_in (x4 + (1 : Int32)) L ∧ (vp_in (x4 + (2 : Int32)) L ∧ w4_story (xs (Int32.toNatClampNeg (x4 + (1 : Int32)))) (xs (Int32.toNatClampNeg (x4 + (2 : Int32)))) M (fun r_173 M_174 => (r_169 = r_173 → (vL_c1243 cA x out L xs (vL_l23 cA x out L xs n) x4 V_170 M_174 kc ks)) ∧ (¬ (r_169 = r_173) → (False))))))))))) ∧ (¬ v_2 = 19 → (v_2 = 20 → ((vp_in (x4 + (1 : Int32)) L ∧ (vp_in (x4 + (2 : Int32)) L ∧ bO (vO V [1] x) (fun o_179 => vX1_clash cA x (xs (Int32.toNatClampNeg (x4 + (1 : Int32)))) (xs (Int32.toNatClampNeg (x4 + (2 : Int32)))) V (fun r_177 V_178 => (vp_in (x4 + (1 : Int32)) L ∧ (vp_in (x4 + (2 : Int32)) L ∧ w4_clash (xs (Int32.toNatClampNeg (x4 + (1 : Int32)))) (xs (Int32.toNatClampNeg (x4 + (2 : Int32)))) M (fun r_181 M_182 => (r_177 = r_181 → (vL_c1243 cA x out L xs (vL_l23 cA x out L xs n) x4 V_178 M_182 kc ks)) ∧ (¬ (r_177 = r_181) → (False))))))))))) ∧ (¬ v_2 = 20 → (v_2 = 21 → (bO (vO V [1] x) (fun o_187 => vX1_together cA x V (fun r_185 V_186 => w4_together M (fun r_189 M_190 => (r_185 = r_189 → (vL_c1243 cA x out L xs (vL_l23 cA x out L xs n) x4 V_186 M_190 kc ks)) ∧ (¬ (r_185 = r_189) → (False))))))) ∧ (¬ v_2 = 21 → (v_2 = 22 → ((vp_in (x4 + (1 : Int32)) L ∧ bO (vO V [1] x) (fun o_195 => vX1_lies cA x (xs (Int32.toNatClampNeg (x4 + (1 : Int32)))) V (fun r_193 V_194 => (vp_in (x4 + (1 : Int32)) L ∧ w4_lies (xs (Int32.toNatClampNeg (x4 + (1 : Int32)))) M (fun r_197 M_198 => (r_193 = r_197 → (vL_c1243 cA x out L xs (vL_l23 cA x out L xs n) x4 V_194 M_198 kc ks)) ∧ (¬ (r_193 = r_197) → (False))))))))) ∧ (¬ v_2 = 22 → (v_2 = 23 → ((vp_in (x4 + (1 : Int32)) L ∧ bO (vO V [1] x) (fun o_203 => vX1_supposed cA x (xs (Int32.toNatClampNeg (x4 + (1 : Int32)))) V (fun r_201 V_202 => (vp_in (x4 + (1 : Int32)) L ∧ w4_supposed (xs (Int32.toNatClampNeg (x4 + (1 : Int32)))) M (fun r_205 M_206 => (r_201 = r_205 → (vL_c1243 cA x out L xs (vL_l23 cA x out L xs n) x4 V_202 M_206 kc ks)) ∧ (¬ (r_201 = r_205) → (False))))))))) ∧ (¬ v_2 = 23 → (v_2 = 24 → ((vp_in (x4 + (1 : Int32)) L ∧ bO (vO V [1] x) (fun o_211 => vX1_law cA x (xs (Int32.toNatClampNeg (x4 + (1 : Int32)))) V (fun r_209 V_210 => (vp_in (x4 + (1 : Int32)) L ∧ w4_law (xs (Int32.toNatClampNeg (x4 + (1 : Int32)))) M (fun r_213 M_214 => (r_209 = r_213 → (vL_c1243 cA x out L xs (vL_l23 cA x out L xs n) x4 V_210 M_214 kc ks)) ∧ (¬ (r_209 = r_213) → (False))))))))) ∧ (¬ v_2 = 24 → (v_2 = 25 → ((vp_in (x4 + (1 : Int32)) L ∧ (vp_in (x4 + (2 : Int32)) L ∧ (vp_in (x4 + (3 : Int32)) L ∧ bO (vO V [1] x) (fun o_219 => vX1_draws cA x (xs (Int32.toNatClampNeg (x4 + (1 : Int32)))) (xs (Int32.toNatClampNeg (x4 + (2 : Int32)))) (xs (Int32.toNatClampNeg (x4 + (3 : Int32)))) V (fun r_217 V_218 => (vp_in (x4 + (1 : Int32)) L ∧ (vp_in (x4 + (2 : Int32)) L ∧ (vp_in (x4 + (3 : Int32)) L ∧ w4_draws (xs (Int32.toNatClampNeg (x4 + (1 : Int32)))) (xs (Int32.toNatClampNeg (x4 + (2 : Int32)))) (xs (Int32.toNatClampNeg (x4 + (3 : Int32)))) M (fun r_221 M_222 => (r_217 = r_221 → (vL_c1243 cA x out L xs (vL_l23 cA x out L xs n) x4 V_218 M_222 kc ks)) ∧ (¬ (r_217 = r_221) → (False))))))))))))) ∧ (¬ v_2 = 25 → (v_2 = 26 → ((vp_in (x4 + (1 : Int32)) L ∧ bO (vO V [1] x) (fun o_227 => vX1_barred cA x (xs (Int32.toNatClampNeg (x4 + (1 : Int32)))) V (fun r_225 V_226 => (vp_in (x4 + (1 : Int32)) L ∧ w4_barred (xs (Int32.toNatClampNeg (x4 + (1 : Int32)))) M (fun r_229 M_230 => (r_225 = r_229 → (vL_c1243 cA x out L xs (vL_l23 cA x out L xs n) x4 V_226 M_230 kc ks)) ∧ (¬ (r_225 = r_229) → (False))))))))) ∧ (¬ v_2 = 26 → (v_2 = 27 → ((vp_in (x4 + (1 : Int32)) L ∧ (vp_in (x4 + (2 : Int32)) L ∧ bO (vO V [1] x) (fun o_235 => vX1_jury cA x (xs (Int32.toNatClampNeg (x4 + (1 : Int32)))) (xs (Int32.toNatClampNeg (x4 + (2 : Int32)))) V (fun r_233 V_234 => (vp_in (x4 + (1 : Int32)) L ∧ (vp_in (x4 + (2 : Int32)) L ∧ w4_jury (xs (Int32.toNatClampNeg (x4 + (1 : Int32)))) (xs (Int32.toNatClampNeg (x4 + (2 : Int32)))) M (fun r_237 M_238 => (r_233 = r_237 → (vL_c1243 cA x out L xs (vL_l23 cA x out L xs n) x4 V_234 M_238 kc ks)) ∧ (¬ (r_233 = r_237) → (False))))))))))) ∧ (¬ v_2 = 27 → (v_2 = 28 → ((vp_in (x4 + (1 : Int32)) L ∧ bO (vO V [1] x) (fun o_243 => vX1_there cA x (xs (Int32.toNatClampNeg (x4 + (1 : Int32)))) V (fun r_241 V_242 => (vp_in (x4 + (1 : Int32)) L ∧ w4_there_2 (xs (Int32.toNatClampNeg (x4 + (1 : Int32)))) M (fun r_245 M_246 => (r_241 = r_245 → (vL_c1243 cA x out L xs (vL_l23 cA x out L xs n) x4 V_242 M_246 kc ks)) ∧ (¬ (r_241 = r_245) → (False))))))))) ∧ (¬ v_2 = 28 → (v_2 = 29 → ((vp_in (x4 + (1 : Int32)) L ∧ (vp_in (x4 + (2 : Int32)) L ∧ bO (vO V [1] x) (fun o_251 => vX1_found cA x (xs (Int32.toNatClampNeg (x4 + (1 : Int32)))) (xs (Int32.toNatClampNeg (x4 + (2 : Int32)))) V (fun r_249 V_250 => (vp_in (x4 + (1 : Int32)) L ∧ (vp_in (x4 + (2 : Int32)) L ∧ w4_found (xs (Int32.toNatClampNeg (x4 + (1 : Int32)))) (xs (Int32.toNatClampNeg (x4 + (2 : Int32)))) M (fun r_253 M_254 => (r_249 = r_253 → (vL_c1243 cA x out L xs (vL_l23 cA x out L xs n) x4 V_250 M_254 kc ks)) ∧ (¬ (r_249 = r_253) → (False))))))))))) ∧ (¬ v_2 = 29 → (v_2 = 30 → ((vp_in (x4 + (1 : Int32)) L ∧ bO (vO V [1] x) (fun o_259 => vX1_count cA x (xs (Int32.toNatClampNeg (x4 + (1 : Int32)))) V (fun r_257 V_258 => (vp_in (x4 + (1 : Int32)) L ∧ w4_count (xs (Int32.toNatClampNeg (x4 + (1 : Int32)))) M (fun r_261 M_262 => (r_257 = r_261 → (vL_c1243 cA x out L xs (vL_l23 cA x out L xs n) x4 V_258 M_262 kc ks)) ∧ (¬ (r_257 = r_261) → (False))))))))) ∧ (¬ v_2 = 30 → vL_c1243 cA x out L xs (vL_l23 cA x out L xs n) x4 V M kc ks))))))))))))))))))))))))))))))))))
set_option maxHeartbeats 8000000 in
set_option maxRecDepth 100000 in
theorem mvL_loop {p : Program} {l : Launch} {e : Env} {s : State} {m : MethodId} {below : List Frame} {meth : Method} {c : Code} {D : va_G} {cA : Nat → ClassId} {m0 : Nat} {ad : Nat → Nat} {A A0 : Nat → Prop} {b L x out : Nat} {xs : Nat → Int32} (hAd : mAd m0 ad) (hAA : ∀ q, A q → A0 q) (hAm : ∀ q, mF m0 ad q → ¬ A q) (hF : ∀ q, mF m0 ad q → A0 q) (hA0 : ∀ q, A0 q → s.heap.size ≤ q) (hbA : ¬ A0 b) (hT : l.stackTraces = false)
    (S : CallFix p m c code 7 s #[Value.ref b] lw_all R_law) (hr : meth.sig.returnType = ret) (hlocks : meth.locks = false) (hK : GK D cA s) (hG : GH A0 s s.heap) (hX : va_X b L xs s s.heap) (hbl : b < s.heap.size) :
    ∀ (n : Nat) (x4 : Int32) (V : VS) (M : MS) (kc ks : Nat) (H : Heap) (locs : List Loc) (ls : Array Slot), HV D A V H → va_P D vwCl (mo cA m0 ad M) H → (∀ q : Nat, H.size ≤ q → A q) → va_S A0 s.heap H locs → (kc ≤ 1200384 ∧ ks ≤ 5490858) → lv_has ls 7 [(0, .ref b), (1, .ref x), (2, .ref m0), (3, .ref out), (4, .int x4)] → vL_l23 cA x out L xs n x4 V M kc ks → W p l e room_1 s m #[Value.ref b] below meth c H locs kc ks (lw_Z below #[Value.ref b] s) (F0 m 23 ls []) := by
  have hx := S.1
  have hb := S.2.1
  have C1243 : ∀ (k23 : Int32 → VS → MS → Nat → Nat → Prop) (K23 : (∀ (x4 : Int32) (V : VS) (M : MS) (kc ks : Nat) (H : Heap) (locs : List Loc) (ls : Array Slot), HV D A V H → va_P D vwCl (mo cA m0 ad M) H → (∀ q : Nat, H.size ≤ q → A q) → va_S A0 s.heap H locs → (kc ≤ 1200384 ∧ ks ≤ 5490858) → lv_has ls 7 [(0, .ref b), (1, .ref x), (2, .ref m0), (3, .ref out), (4, .int x4)] → k23 x4 V M kc ks → W p l e room_1 s m #[Value.ref b] below meth c H locs kc ks (lw_Z below #[Value.ref b] s) (F0 m 23 ls []))), ∀ (x4 : Int32) (V : VS) (M : MS) (kc ks : Nat) (H : Heap) (locs : List Loc) (ls : Array Slot), HV D A V H → va_P D vwCl (mo cA m0 ad M) H → (∀ q : Nat, H.size ≤ q → A q) → va_S A0 s.heap H locs → (kc ≤ 1200384 ∧ ks ≤ 5490858) → lv_has ls 7 [(0, .ref b), (1, .ref x), (2, .ref m0), (3, .ref out), (4, .int x4)] → vL_c1243 cA x out L xs k23 x4 V M kc ks → W p l e room_1 s m #[Value.ref b] below meth c H locs kc ks (lw_Z below #[Value.ref b] s) (F0 m 1243 ls []) := by
    intro k23 K23
    intro x4 V M kc ks H locs ls hV hP hZ hS hk hl h
    unfold vL_c1243 at h
    obtain ⟨v_11, e_v_11⟩ : ∃ y : Int32, y = x4 + (6 : Int32) := ⟨_, rfl⟩
    replace h := h v_11 e_v_11
    refine lv_iinc (v := v_11) (lv' := [(4, .int v_11), (0, .ref b), (1, .ref x), (2, .ref m0), (3, .ref out)]) hx hb dL_law_1243 hl (k := 4) rfl (by rw [kc_6, e_v_11]) (by decide) rfl (fun ls hl => ?_)
    refine lv_goto (tgt := 23) hx hb dL_law_1246 (by decide) ?_
    exact K23 _ _ _ _ _ _ _ _ hV hP hZ hS hk (lv_sub hl [1, 2, 3, 4, 0] rfl) h
  have C405 : ∀ (k23 : Int32 → VS → MS → Nat → Nat → Prop) (K23 : (∀ (x4 : Int32) (V : VS) (M : MS) (kc ks : Nat) (H : Heap) (locs : List Loc) (ls : Array Slot), HV D A V H → va_P D vwCl (mo cA m0 ad M) H → (∀ q : Nat, H.size ≤ q → A q) → va_S A0 s.heap H locs → (kc ≤ 1200384 ∧ ks ≤ 5490858) → lv_has ls 7 [(0, .ref b), (1, .ref x), (2, .ref m0), (3, .ref out), (4, .int x4)] → k23 x4 V M kc ks → W p l e room_1 s m #[Value.ref b] below meth c H locs kc ks (lw_Z below #[Value.ref b] s) (F0 m 23 ls []))), ∀ (x4 : Int32) (V : VS) (M : MS) (kc ks : Nat) (H : Heap) (locs : List Loc) (ls : Array Slot), HV D A V H → va_P D vwCl (mo cA m0 ad M) H → (∀ q : Nat, H.size ≤ q → A q) → va_S A0 s.heap H locs → (kc ≤ 1200384 ∧ ks ≤ 5490858) → lv_has ls 7 [(0, .ref b), (1, .ref x), (2, .ref m0), (3, .ref out), (4, .int x4)] → vL_c405 cA x out L xs k23 x4 V M kc ks → W p l e room_1 s m #[Value.ref b] below meth c H locs kc ks (lw_Z below #[Value.ref b] s) (F0 m 405 ls []) := by
    intro k23 K23
    intro x4 V M kc ks H locs ls hV hP hZ hS hk hl h
    unfold vL_c405 at h
    refine lv_goto (tgt := 1243) hx hb dL_law_405 (by decide) ?_
    exact C1243 _ K23 _ _ _ _ _ _ _ _ hV hP hZ hS hk (lv_sub hl [0, 1, 2, 3, 4] rfl) h
  have C539 : ∀ (k23 : Int32 → VS → MS → Nat → Nat → Prop) (K23 : (∀ (x4 : Int32) (V : VS) (M : MS) (kc ks : Nat) (H : Heap) (locs : List Loc) (ls : Array Slot), HV D A V H → va_P D vwCl (mo cA m0 ad M) H → (∀ q : Nat, H.size ≤ q → A q) → va_S A0 s.heap H locs → (kc ≤ 1200384 ∧ ks ≤ 5490858) → lv_has ls 7 [(0, .ref b), (1, .ref x), (2, .ref m0), (3, .ref out), (4, .int x4)] → k23 x4 V M kc ks → W p l e room_1 s m #[Value.ref b] below meth c H locs kc ks (lw_Z below #[Value.ref b] s) (F0 m 23 ls []))), ∀ (x4 : Int32) (t0 : Int32) (t2 : Int32) (V : VS) (M : MS) (kc ks : Nat) (H : Heap) (locs : List Loc) (ls : Array Slot), HV D A V H → va_P D vwCl (mo cA m0 ad M) H → (∀ q : Nat, H.size ≤ q → A q) → va_S A0 s.heap H locs → (kc ≤ 1200384 ∧ ks ≤ 5490858) → lv_has ls 7 [(0, .ref b), (1, .ref x), (2, .ref m0), (3, .ref out), (4, .int x4)] → vL_c539 cA x out L xs k23 x4 t0 t2 V M kc ks → W p l e room_1 s m #[Value.ref b] below meth c H locs kc ks (lw_Z below #[Value.ref b] s) (F0 m 539 ls [.int t0, .ref m0, .int t2]) := by
    intro k23 K23
    intro x4 t0 t2 V M kc ks H locs ls hV hP hZ hS hk hl h
    unfold vL_c539 at h
    refine lv_aload_n hx hb dL_law_539 rfl (lv_at hl 0 rfl) ?_
    refine lv_iload hx hb dL_law_540 (lv_at hl 4 rfl) ?_
    refine lv_iconst hx hb dL_law_542 kc_2 ?_
    refine lv_iadd hx hb dL_law_543 ?_
    obtain ⟨hi, h⟩ := h
    refine va_sld hx hb hX hbl hbA hS hi dL_law_544 ?_
    refine lv_aload_n hx hb dL_law_545 rfl (lv_at hl 0 rfl) ?_
    refine lv_iload hx hb dL_law_546 (lv_at hl 4 rfl) ?_
    refine lv_iconst hx hb dL_law_548 kc_3 ?_
    refine lv_iadd hx hb dL_law_549 ?_
    obtain ⟨hi, h⟩ := h
    refine va_sld hx hb hX hbl hbA hS hi dL_law_550 ?_
    refine lv_aload_n hx hb dL_law_551 rfl (lv_at hl 0 rfl) ?_
    refine lv_iload hx hb dL_law_552 (lv_at hl 4 rfl) ?_
    refine lv_iconst hx hb dL_law_554 kc_4 ?_
    refine lv_iadd hx hb dL_law_555 ?_
    obtain ⟨hi, h⟩ := h
    refine va_sld hx hb hX hbl hbA hS hi dL_law_556 ?_
    refine lv_aload_n hx hb dL_law_557 rfl (lv_at hl 0 rfl) ?_
    refine lv_iload hx hb dL_law_558 (lv_at hl 4 rfl) ?_
    refine lv_iconst hx hb dL_law_560 kc_5 ?_
    refine lv_iadd hx hb dL_law_561 ?_
    obtain ⟨hi, h⟩ := h
    refine va_sld hx hb hX hbl hbA hS hi dL_law_562 ?_
    refine mA_i (As := [.int t0, .int (xs (Int32.toNatClampNeg (x4 + (2 : Int32)))), .int (xs (Int32.toNatClampNeg (x4 + (3 : Int32)))), .int (xs (Int32.toNatClampNeg (x4 + (4 : Int32)))), .int (xs (Int32.toNatClampNeg (x4 + (5 : Int32))))]) (rest := [.int t2]) S hK.1 hP hS hF (mt4_say l hAd t0 (xs (Int32.toNatClampNeg (x4 + (2 : Int32)))) (xs (Int32.toNatClampNeg (x4 + (3 : Int32)))) (xs (Int32.toNatClampNeg (x4 + (4 : Int32)))) (xs (Int32.toNatClampNeg (x4 + (5 : Int32)))) M _ h) (cwV 5 S.2.2.2.2 (lw_V q1783 q1784 q1785 q145 q1786) rfl rfl rfl cdX4_say ⟨Nat.le_of_ble_eq_true rfl, Nat.le_of_ble_eq_true rfl⟩) rfl rfl hl.1 (Nat.le_of_ble_eq_true rfl) dL_law_563 hk (fun r_77 M_78 H1 locs h hP1 hz hkq hS => ?_)
    replace hV := hV.kept (fun b9 x9 hb9 => hkq b9 (hV.lt hb9) (fun hm => hAm b9 hm (hV.inA hb9)))
    replace hZ : ∀ q : Nat, H1.size ≤ q → A q := fun q hq => hZ q (Nat.le_trans hz hq)
    clear hP hkq hz
    have hP := hP1
    refine lv_icmp_eq (tgt := 1243) hx hb dL_law_566 (by decide) (fun c_79 => ?_) (fun c_79 => ?_)
    · replace h := h.1 c_79
      exact C1243 _ K23 _ _ _ _ _ _ _ _ hV hP hZ hS hk (lv_sub hl [0, 1, 2, 3, 4] rfl) h
    · replace h := h.2 c_79
      refine lv_iconst hx hb dL_law_569 kc_0 ?_
      exact h.elim
  have C497 : ∀ (k23 : Int32 → VS → MS → Nat → Nat → Prop) (K23 : (∀ (x4 : Int32) (V : VS) (M : MS) (kc ks : Nat) (H : Heap) (locs : List Loc) (ls : Array Slot), HV D A V H → va_P D vwCl (mo cA m0 ad M) H → (∀ q : Nat, H.size ≤ q → A q) → va_S A0 s.heap H locs → (kc ≤ 1200384 ∧ ks ≤ 5490858) → lv_has ls 7 [(0, .ref b), (1, .ref x), (2, .ref m0), (3, .ref out), (4, .int x4)] → k23 x4 V M kc ks → W p l e room_1 s m #[Value.ref b] below meth c H locs kc ks (lw_Z below #[Value.ref b] s) (F0 m 23 ls []))), ∀ (x4 : Int32) (t0 : Int32) (V : VS) (M : MS) (kc ks : Nat) (H : Heap) (locs : List Loc) (ls : Array Slot), HV D A V H → va_P D vwCl (mo cA m0 ad M) H → (∀ q : Nat, H.size ≤ q → A q) → va_S A0 s.heap H locs → (kc ≤ 1200384 ∧ ks ≤ 5490858) → lv_has ls 7 [(0, .ref b), (1, .ref x), (2, .ref m0), (3, .ref out), (4, .int x4)] → vL_c497 cA x out L xs k23 x4 t0 V M kc ks → W p l e room_1 s m #[Value.ref b] below meth c H locs kc ks (lw_Z below #[Value.ref b] s) (F0 m 497 ls [.int t0, .ref x]) := by
    intro k23 K23
    intro x4 t0 V M kc ks H locs ls hV hP hZ hS hk hl h
    unfold vL_c497 at h
    refine lv_aload_n hx hb dL_law_497 rfl (lv_at hl 0 rfl) ?_
    refine lv_iload hx hb dL_law_498 (lv_at hl 4 rfl) ?_
    refine lv_iconst hx hb dL_law_500 kc_2 ?_
    refine lv_iadd hx hb dL_law_501 ?_
    obtain ⟨hi, h⟩ := h
    refine va_sld hx hb hX hbl hbA hS hi dL_law_502 ?_
    refine lv_aload_n hx hb dL_law_503 rfl (lv_at hl 0 rfl) ?_
    refine lv_iload hx hb dL_law_504 (lv_at hl 4 rfl) ?_
    refine lv_iconst hx hb dL_law_506 kc_3 ?_
    refine lv_iadd hx hb dL_law_507 ?_
    obtain ⟨hi, h⟩ := h
    refine va_sld hx hb hX hbl hbA hS hi dL_law_508 ?_
    refine lv_aload_n hx hb dL_law_509 rfl (lv_at hl 0 rfl) ?_
    refine lv_iload hx hb dL_law_510 (lv_at hl 4 rfl) ?_
    refine lv_iconst hx hb dL_law_512 kc_4 ?_
    refine lv_iadd hx hb dL_law_513 ?_
    obtain ⟨hi, h⟩ := h
    refine va_sld hx hb hX hbl hbA hS hi dL_law_514 ?_
    refine lv_aload_n hx hb dL_law_515 rfl (lv_at hl 0 rfl) ?_
    refine lv_iload hx hb dL_law_516 (lv_at hl 4 rfl) ?_
    refine lv_iconst hx hb dL_law_518 kc_5 ?_
    refine lv_iadd hx hb dL_law_519 ?_
    obtain ⟨hi, h⟩ := h
    refine va_sld hx hb hX hbl hbA hS hi dL_law_520 ?_
    obtain ⟨mc_71, ms_72, hc1, hc2, h⟩ := h
    obtain ⟨o_74, e_75, h⟩ := bO_e h
    refine lk_i (lr_V (As := [.int t0, .int (xs (Int32.toNatClampNeg (x4 + (2 : Int32)))), .int (xs (Int32.toNatClampNeg (x4 + (3 : Int32)))), .int (xs (Int32.toNatClampNeg (x4 + (4 : Int32)))), .int (xs (Int32.toNatClampNeg (x4 + (5 : Int32))))]) (rest := []) S hK hG hV hS hAA hZ e_75 rfl (mvX1_say l x t0 (xs (Int32.toNatClampNeg (x4 + (2 : Int32)))) (xs (Int32.toNatClampNeg (x4 + (3 : Int32)))) (xs (Int32.toNatClampNeg (x4 + (4 : Int32)))) (xs (Int32.toNatClampNeg (x4 + (5 : Int32)))) V mc_71 ms_72 _ h) (cwV 5 S.2.2.2.2 (lw_V q992 q993 q994 q139 q995) rfl rfl rfl cdX1_say ⟨Nat.le_of_ble_eq_true rfl, Nat.le_of_ble_eq_true rfl⟩) rfl hl.1 (Nat.le_of_ble_eq_true rfl) dL_law_521 ⟨hc1, hc2⟩) hS hAA (fun r_70 V_73 H1 locs h hV1 hz hkq hS => ?_)
    replace hP := mo_kept hAd hP (fun q hq => hkq q (mo_lt hP hq) (hAm q hq))
    replace hZ : ∀ q : Nat, H1.size ≤ q → A q := fun q hq => hZ q (Nat.le_trans hz hq)
    clear hV hkq hz
    have hV := hV1
    have hk : kc + mc_71 ≤ 1200384 ∧ ks + ms_72 ≤ 5490858 := ⟨hc1, hc2⟩
    refine lv_aload_n hx hb dL_law_524 rfl (lv_at hl 2 rfl) ?_
    refine lv_aload_n hx hb dL_law_525 rfl (lv_at hl 0 rfl) ?_
    refine lv_iload hx hb dL_law_526 (lv_at hl 4 rfl) ?_
    refine lv_iconst hx hb dL_law_528 kc_1 ?_
    refine lv_iadd hx hb dL_law_529 ?_
    obtain ⟨hi, h⟩ := h
    refine va_sld hx hb hX hbl hbA hS hi dL_law_530 ?_
    refine lv_if_eq (tgt := 538) hx hb dL_law_531 (by decide) (fun c_76 => ?_) (fun c_76 => ?_)
    · replace h := h.1 c_76
      refine lv_iconst hx hb dL_law_538 kc_0 ?_
      exact C539 _ K23 _ _ _ _ _ _ _ _ _ _ hV hP hZ hS hk (lv_sub hl [0, 1, 2, 3, 4] rfl) h
    · replace h := h.2 c_76
      refine lv_iconst hx hb dL_law_534 kc_1 ?_
      refine lv_goto (tgt := 539) hx hb dL_law_535 (by decide) ?_
      exact C539 _ K23 _ _ _ _ _ _ _ _ _ _ hV hP hZ hS hk (lv_sub hl [0, 1, 2, 3, 4] rfl) h
  have L23 : ∀ (n : Nat) (x4 : Int32) (V : VS) (M : MS) (kc ks : Nat) (H : Heap) (locs : List Loc) (ls : Array Slot), HV D A V H → va_P D vwCl (mo cA m0 ad M) H → (∀ q : Nat, H.size ≤ q → A q) → va_S A0 s.heap H locs → (kc ≤ 1200384 ∧ ks ≤ 5490858) → lv_has ls 7 [(0, .ref b), (1, .ref x), (2, .ref m0), (3, .ref out), (4, .int x4)] → vL_l23 cA x out L xs n x4 V M kc ks → W p l e room_1 s m #[Value.ref b] below meth c H locs kc ks (lw_Z below #[Value.ref b] s) (F0 m 23 ls []) := by
    intro n
    induction n with
    | zero => intro x4 V M kc ks H locs ls hV hP hZ hS hk hl h; rw [vL_l23] at h; exact h.elim
    | succ n ih =>
      intro x4 V M kc ks H locs ls hV hP hZ hS hk hl h
      rw [vL_l23] at h
      refine lv_iload hx hb dL_law_23 (lv_at hl 4 rfl) ?_
      refine lv_aload_n hx hb dL_law_25 rfl (lv_at hl 0 rfl) ?_
      refine va_slen hx hb hX hbl hbA hS dL_law_26 ?_
      refine lv_bipush hx hb dL_law_27 kb_6 ?_
      refine lv_isub hx hb dL_law_29 ?_
      refine lv_icmp_gt (tgt := 1249) hx hb dL_law_30 (by decide) (fun c_1 => ?_) (fun c_1 => ?_)
      · replace h := h.1 c_1
        refine lv_iconst hx hb dL_law_1249 kc_1 ?_
        refine va_forget (fun q hq => hA0 _ (hS.2.2 q hq)) ?_
        refine W.widen (k := 1200384) (n := 5490858) hk.1 hk.2 ?_
        exact lw_ret hx hb hr hlocks dL_law_1250
      · replace h := h.2 c_1
        refine lv_aload_n hx hb dL_law_33 rfl (lv_at hl 0 rfl) ?_
        refine lv_iload hx hb dL_law_34 (lv_at hl 4 rfl) ?_
        obtain ⟨hi, h⟩ := h
        refine va_sld hx hb hX hbl hbA hS hi dL_law_36 ?_
        refine lv_bipush hx hb dL_law_37 kb_31 ?_
        refine lv_iand hx hb dL_law_39 ?_
        refine lv_topi (fun v_2 e_v_2 => ?_)
        replace h := h v_2 e_v_2
        by_cases c_3 : v_2 = 0
        · replace h := h.1 c_3
          refine lv_tableIn (tgt := 180) hx hb dL_law_40 (by rw [c_3]; decide) (by rw [c_3]; decide) (by rw [c_3]; rfl) (by decide) ?_
          refine lv_aload_n hx hb dL_law_180 rfl (lv_at hl 1 rfl) ?_
          refine lv_aload_n hx hb dL_law_181 rfl (lv_at hl 0 rfl) ?_
          refine lv_iload hx hb dL_law_182 (lv_at hl 4 rfl) ?_
          refine lv_iconst hx hb dL_law_184 kc_1 ?_
          refine lv_iadd hx hb dL_law_185 ?_
          obtain ⟨hi, h⟩ := h
          refine va_sld hx hb hX hbl hbA hS hi dL_law_186 ?_
          refine lv_aload_n hx hb dL_law_187 rfl (lv_at hl 0 rfl) ?_
          refine lv_iload hx hb dL_law_188 (lv_at hl 4 rfl) ?_
          refine lv_iconst hx hb dL_law_190 kc_2 ?_
          refine lv_iadd hx hb dL_law_191 ?_
          obtain ⟨hi, h⟩ := h
          refine va_sld hx hb hX hbl hbA hS hi dL_law_192 ?_
          refine lv_aload_n hx hb dL_law_193 rfl (lv_at hl 0 rfl) ?_
          refine lv_iload hx hb dL_law_194 (lv_at hl 4 rfl) ?_
          refine lv_iconst hx hb dL_law_196 kc_3 ?_
          refine lv_iadd hx hb dL_law_197 ?_
          obtain ⟨hi, h⟩ := h
          refine va_sld hx hb hX hbl hbA hS hi dL_law_198 ?_
          refine lv_aload_n hx hb dL_law_199 rfl (lv_at hl 0 rfl) ?_
          refine lv_iload hx hb dL_law_200 (lv_at hl 4 rfl) ?_
          refine lv_iconst hx hb dL_law_202 kc_4 ?_
          refine lv_iadd hx hb dL_law_203 ?_
          obtain ⟨hi, h⟩ := h
          refine va_sld hx hb hX hbl hbA hS hi dL_law_204 ?_
          refine lv_aload_n hx hb dL_law_205 rfl (lv_at hl 0 rfl) ?_
          refine lv_iload hx hb dL_law_206 (lv_at hl 4 rfl) ?_
          refine lv_iconst hx hb dL_law_208 kc_5 ?_
          refine lv_iadd hx hb dL_law_209 ?_
          obtain ⟨hi, h⟩ := h
          refine va_sld hx hb hX hbl hbA hS hi dL_law_210 ?_
          obtain ⟨o_6, e_7, h⟩ := bO_e h
          refine lk_i (lr_V (As := [.int (xs (Int32.toNatClampNeg (x4 + (1 : Int32)))), .int (xs (Int32.toNatClampNeg (x4 + (2 : Int32)))), .int (xs (Int32.toNatClampNeg (x4 + (3 : Int32)))), .int (xs (Int32.toNatClampNeg (x4 + (4 : Int32)))), .int (xs (Int32.toNatClampNeg (x4 + (5 : Int32))))]) (rest := []) S hK hG hV hS hAA hZ e_7 rfl (mvX1_feed l x (xs (Int32.toNatClampNeg (x4 + (1 : Int32)))) (xs (Int32.toNatClampNeg (x4 + (2 : Int32)))) (xs (Int32.toNatClampNeg (x4 + (3 : Int32)))) (xs (Int32.toNatClampNeg (x4 + (4 : Int32)))) (xs (Int32.toNatClampNeg (x4 + (5 : Int32)))) V _ h) (cwV 5 S.2.2.2.2 (lw_V q354 q355 q356 q139 q357) rfl rfl rfl cdX1_feed ⟨Nat.le_of_ble_eq_true rfl, Nat.le_of_ble_eq_true rfl⟩) rfl hl.1 (Nat.le_of_ble_eq_true rfl) dL_law_211 hk) hS hAA (fun r_4 V_5 H1 locs h hV1 hz hkq hS => ?_)
          replace hP := mo_kept hAd hP (fun q hq => hkq q (mo_lt hP hq) (hAm q hq))
          replace hZ : ∀ q : Nat, H1.size ≤ q → A q := fun q hq => hZ q (Nat.le_trans hz hq)
          clear hV hkq hz
          have hV := hV1
          refine lv_aload_n hx hb dL_law_214 rfl (lv_at hl 2 rfl) ?_
          refine lv_aload_n hx hb dL_law_215 rfl (lv_at hl 0 rfl) ?_
          refine lv_iload hx hb dL_law_216 (lv_at hl 4 rfl) ?_
          refine lv_iconst hx hb dL_law_218 kc_1 ?_
          refine lv_iadd hx hb dL_law_219 ?_
          obtain ⟨hi, h⟩ := h
          refine va_sld hx hb hX hbl hbA hS hi dL_law_220 ?_
          refine lv_aload_n hx hb dL_law_221 rfl (lv_at hl 0 rfl) ?_
          refine lv_iload hx hb dL_law_222 (lv_at hl 4 rfl) ?_
          refine lv_iconst hx hb dL_law_224 kc_2 ?_
          refine lv_iadd hx hb dL_law_225 ?_
          obtain ⟨hi, h⟩ := h
          refine va_sld hx hb hX hbl hbA hS hi dL_law_226 ?_
          refine lv_aload_n hx hb dL_law_227 rfl (lv_at hl 0 rfl) ?_
          refine lv_iload hx hb dL_law_228 (lv_at hl 4 rfl) ?_
          refine lv_iconst hx hb dL_law_230 kc_3 ?_
          refine lv_iadd hx hb dL_law_231 ?_
          obtain ⟨hi, h⟩ := h
          refine va_sld hx hb hX hbl hbA hS hi dL_law_232 ?_
          refine lv_aload_n hx hb dL_law_233 rfl (lv_at hl 0 rfl) ?_
          refine lv_iload hx hb dL_law_234 (lv_at hl 4 rfl) ?_
          refine lv_iconst hx hb dL_law_236 kc_4 ?_
          refine lv_iadd hx hb dL_law_237 ?_
          obtain ⟨hi, h⟩ := h
          refine va_sld hx hb hX hbl hbA hS hi dL_law_238 ?_
          refine lv_aload_n hx hb dL_law_239 rfl (lv_at hl 0 rfl) ?_
          refine lv_iload hx hb dL_law_240 (lv_at hl 4 rfl) ?_
          refine lv_iconst hx hb dL_law_242 kc_5 ?_
          refine lv_iadd hx hb dL_law_243 ?_
          obtain ⟨hi, h⟩ := h
          refine va_sld hx hb hX hbl hbA hS hi dL_law_244 ?_
          refine mA_i (As := [.int (xs (Int32.toNatClampNeg (x4 + (1 : Int32)))), .int (xs (Int32.toNatClampNeg (x4 + (2 : Int32)))), .int (xs (Int32.toNatClampNeg (x4 + (3 : Int32)))), .int (xs (Int32.toNatClampNeg (x4 + (4 : Int32)))), .int (xs (Int32.toNatClampNeg (x4 + (5 : Int32))))]) (rest := [.int r_4]) S hK.1 hP hS hF (mt4_feed l hAd (xs (Int32.toNatClampNeg (x4 + (1 : Int32)))) (xs (Int32.toNatClampNeg (x4 + (2 : Int32)))) (xs (Int32.toNatClampNeg (x4 + (3 : Int32)))) (xs (Int32.toNatClampNeg (x4 + (4 : Int32)))) (xs (Int32.toNatClampNeg (x4 + (5 : Int32)))) M _ h) (cwV 5 S.2.2.2.2 (lw_V q1624 q1625 q1626 q145 q1627) rfl rfl rfl cdX4_feed ⟨Nat.le_of_ble_eq_true rfl, Nat.le_of_ble_eq_true rfl⟩) rfl rfl hl.1 (Nat.le_of_ble_eq_true rfl) dL_law_245 hk (fun r_8 M_9 H1 locs h hP1 hz hkq hS => ?_)
          replace hV := hV.kept (fun b9 x9 hb9 => hkq b9 (hV.lt hb9) (fun hm => hAm b9 hm (hV.inA hb9)))
          replace hZ : ∀ q : Nat, H1.size ≤ q → A q := fun q hq => hZ q (Nat.le_trans hz hq)
          clear hP hkq hz
          have hP := hP1
          refine lv_icmp_eq (tgt := 1243) hx hb dL_law_248 (by decide) (fun c_10 => ?_) (fun c_10 => ?_)
          · replace h := h.1 c_10
            exact C1243 _ ih _ _ _ _ _ _ _ _ hV hP hZ hS hk (lv_sub hl [0, 1, 2, 3, 4] rfl) h
          · replace h := h.2 c_10
            refine lv_iconst hx hb dL_law_251 kc_0 ?_
            exact h.elim
        · replace h := h.2 c_3
          by_cases c_12 : v_2 = 1
          · replace h := h.1 c_12
            refine lv_tableIn (tgt := 253) hx hb dL_law_40 (by rw [c_12]; decide) (by rw [c_12]; decide) (by rw [c_12]; rfl) (by decide) ?_
            refine lv_aload_n hx hb dL_law_253 rfl (lv_at hl 1 rfl) ?_
            refine lv_aload_n hx hb dL_law_254 rfl (lv_at hl 0 rfl) ?_
            refine lv_iload hx hb dL_law_255 (lv_at hl 4 rfl) ?_
            refine lv_iconst hx hb dL_law_257 kc_1 ?_
            refine lv_iadd hx hb dL_law_258 ?_
            obtain ⟨hi, h⟩ := h
            refine va_sld hx hb hX hbl hbA hS hi dL_law_259 ?_
            obtain ⟨mc_14, ms_15, hc1, hc2, h⟩ := h
            obtain ⟨o_17, e_18, h⟩ := bO_e h
            refine ly_i (lr_VH (As := [.int (xs (Int32.toNatClampNeg (x4 + (1 : Int32))))]) (rest := []) S hK hG hV hS hAA hZ e_18 rfl (mvX1_tell l x (xs (Int32.toNatClampNeg (x4 + (1 : Int32)))) V mc_14 ms_15 _ _ h) (vx_cwVW 1 S.2.2.2.2 (lw_VW q362 q363 q364 q139 q365) rfl rfl rfl cdX1_tell ⟨Nat.le_of_ble_eq_true rfl, Nat.le_of_ble_eq_true rfl⟩) rfl hl.1 (Nat.le_of_ble_eq_true rfl) dL_law_260 ⟨hc1, hc2⟩) hS hAA (fun r_13 V_16 H1 locs h hV1 hz hkq hS => ?_)
            replace hP := mo_kept hAd hP (fun q hq => hkq q (mo_lt hP hq) (hAm q hq))
            replace hZ : ∀ q : Nat, H1.size ≤ q → A q := fun q hq => hZ q (Nat.le_trans hz hq)
            clear hV hkq hz
            have hV := hV1
            have hk : kc + mc_14 ≤ 1200384 ∧ ks + ms_15 ≤ 5490858 := ⟨hc1, hc2⟩
            refine lv_aload_n hx hb dL_law_263 rfl (lv_at hl 2 rfl) ?_
            refine lv_aload_n hx hb dL_law_264 rfl (lv_at hl 0 rfl) ?_
            refine lv_iload hx hb dL_law_265 (lv_at hl 4 rfl) ?_
            refine lv_iconst hx hb dL_law_267 kc_1 ?_
            refine lv_iadd hx hb dL_law_268 ?_
            obtain ⟨hi, h⟩ := h
            refine va_sld hx hb hX hbl hbA hS hi dL_law_269 ?_
            refine mA_i (As := [.int (xs (Int32.toNatClampNeg (x4 + (1 : Int32))))]) (rest := [.int r_13]) S hK.1 hP hS hF (mt4_tell l hAd (xs (Int32.toNatClampNeg (x4 + (1 : Int32)))) M _ h) (cwV 1 S.2.2.2.2 (lw_V q1628 q1629 q1630 q145 q1631) rfl rfl rfl cdX4_tell ⟨Nat.le_of_ble_eq_true rfl, Nat.le_of_ble_eq_true rfl⟩) rfl rfl hl.1 (Nat.le_of_ble_eq_true rfl) dL_law_270 hk (fun r_19 M_20 H1 locs h hP1 hz hkq hS => ?_)
            replace hV := hV.kept (fun b9 x9 hb9 => hkq b9 (hV.lt hb9) (fun hm => hAm b9 hm (hV.inA hb9)))
            replace hZ : ∀ q : Nat, H1.size ≤ q → A q := fun q hq => hZ q (Nat.le_trans hz hq)
            clear hP hkq hz
            have hP := hP1
            refine lv_icmp_eq (tgt := 1243) hx hb dL_law_273 (by decide) (fun c_21 => ?_) (fun c_21 => ?_)
            · replace h := h.1 c_21
              exact C1243 _ ih _ _ _ _ _ _ _ _ hV hP hZ hS hk (lv_sub hl [0, 1, 2, 3, 4] rfl) h
            · replace h := h.2 c_21
              refine lv_iconst hx hb dL_law_276 kc_0 ?_
              exact h.elim
          · replace h := h.2 c_12
            by_cases c_22 : v_2 = 2
            · replace h := h.1 c_22
              refine lv_tableIn (tgt := 278) hx hb dL_law_40 (by rw [c_22]; decide) (by rw [c_22]; decide) (by rw [c_22]; rfl) (by decide) ?_
              refine lv_aload_n hx hb dL_law_278 rfl (lv_at hl 1 rfl) ?_
              refine lv_aload_n hx hb dL_law_279 rfl (lv_at hl 0 rfl) ?_
              refine lv_iload hx hb dL_law_280 (lv_at hl 4 rfl) ?_
              refine lv_iconst hx hb dL_law_282 kc_1 ?_
              refine lv_iadd hx hb dL_law_283 ?_
              obtain ⟨hi, h⟩ := h
              refine va_sld hx hb hX hbl hbA hS hi dL_law_284 ?_
              obtain ⟨o_25, e_26, h⟩ := bO_e h
              refine lk_i (lr_V (As := [.int (xs (Int32.toNatClampNeg (x4 + (1 : Int32))))]) (rest := []) S hK hG hV hS hAA hZ e_26 rfl (mvX1_fault l x (xs (Int32.toNatClampNeg (x4 + (1 : Int32)))) V _ h) (cwV 1 S.2.2.2.2 (lw_V q954 q955 q956 q139 q957) rfl rfl rfl cdX1_fault ⟨Nat.le_of_ble_eq_true rfl, Nat.le_of_ble_eq_true rfl⟩) rfl hl.1 (Nat.le_of_ble_eq_true rfl) dL_law_285 hk) hS hAA (fun r_23 V_24 H1 locs h hV1 hz hkq hS => ?_)
              replace hP := mo_kept hAd hP (fun q hq => hkq q (mo_lt hP hq) (hAm q hq))
              replace hZ : ∀ q : Nat, H1.size ≤ q → A q := fun q hq => hZ q (Nat.le_trans hz hq)
              clear hV hkq hz
              have hV := hV1
              refine lv_aload_n hx hb dL_law_288 rfl (lv_at hl 2 rfl) ?_
              refine lv_aload_n hx hb dL_law_289 rfl (lv_at hl 0 rfl) ?_
              refine lv_iload hx hb dL_law_290 (lv_at hl 4 rfl) ?_
              refine lv_iconst hx hb dL_law_292 kc_1 ?_
              refine lv_iadd hx hb dL_law_293 ?_
              obtain ⟨hi, h⟩ := h
              refine va_sld hx hb hX hbl hbA hS hi dL_law_294 ?_
              refine mA_i (As := [.int (xs (Int32.toNatClampNeg (x4 + (1 : Int32))))]) (rest := [.int r_23]) S hK.1 hP hS hF (mt4_fault l hAd (xs (Int32.toNatClampNeg (x4 + (1 : Int32)))) M _ h) (cwV 1 S.2.2.2.2 (lw_V q1747 q1748 q1749 q145 q1750) rfl rfl rfl cdX4_fault ⟨Nat.le_of_ble_eq_true rfl, Nat.le_of_ble_eq_true rfl⟩) rfl rfl hl.1 (Nat.le_of_ble_eq_true rfl) dL_law_295 hk (fun r_27 M_28 H1 locs h hP1 hz hkq hS => ?_)
              replace hV := hV.kept (fun b9 x9 hb9 => hkq b9 (hV.lt hb9) (fun hm => hAm b9 hm (hV.inA hb9)))
              replace hZ : ∀ q : Nat, H1.size ≤ q → A q := fun q hq => hZ q (Nat.le_trans hz hq)
              clear hP hkq hz
              have hP := hP1
              refine lv_icmp_eq (tgt := 1243) hx hb dL_law_298 (by decide) (fun c_29 => ?_) (fun c_29 => ?_)
              · replace h := h.1 c_29
                exact C1243 _ ih _ _ _ _ _ _ _ _ hV hP hZ hS hk (lv_sub hl [0, 1, 2, 3, 4] rfl) h
              · replace h := h.2 c_29
                refine lv_iconst hx hb dL_law_301 kc_0 ?_
                exact h.elim
            · replace h := h.2 c_22
              by_cases c_30 : v_2 = 3
              · replace h := h.1 c_30
                refine lv_tableIn (tgt := 303) hx hb dL_law_40 (by rw [c_30]; decide) (by rw [c_30]; decide) (by rw [c_30]; rfl) (by decide) ?_
                refine lv_aload_n hx hb dL_law_303 rfl (lv_at hl 1 rfl) ?_
                refine lv_aload_n hx hb dL_law_304 rfl (lv_at hl 0 rfl) ?_
                refine lv_iload hx hb dL_law_305 (lv_at hl 4 rfl) ?_
                refine lv_iconst hx hb dL_law_307 kc_1 ?_
                refine lv_iadd hx hb dL_law_308 ?_
                obtain ⟨hi, h⟩ := h
                refine va_sld hx hb hX hbl hbA hS hi dL_law_309 ?_
                refine lv_aload_n hx hb dL_law_310 rfl (lv_at hl 0 rfl) ?_
                refine lv_iload hx hb dL_law_311 (lv_at hl 4 rfl) ?_
                refine lv_iconst hx hb dL_law_313 kc_2 ?_
                refine lv_iadd hx hb dL_law_314 ?_
                obtain ⟨hi, h⟩ := h
                refine va_sld hx hb hX hbl hbA hS hi dL_law_315 ?_
                obtain ⟨o_33, e_34, h⟩ := bO_e h
                refine lk_i (lr_V (As := [.int (xs (Int32.toNatClampNeg (x4 + (1 : Int32)))), .int (xs (Int32.toNatClampNeg (x4 + (2 : Int32))))]) (rest := []) S hK hG hV hS hAA hZ e_34 rfl (mvX1_named l x (xs (Int32.toNatClampNeg (x4 + (1 : Int32)))) (xs (Int32.toNatClampNeg (x4 + (2 : Int32)))) V _ h) (cwV 2 S.2.2.2.2 (lw_V q958 q959 q960 q139 q961) rfl rfl rfl cdX1_named ⟨Nat.le_of_ble_eq_true rfl, Nat.le_of_ble_eq_true rfl⟩) rfl hl.1 (Nat.le_of_ble_eq_true rfl) dL_law_316 hk) hS hAA (fun r_31 V_32 H1 locs h hV1 hz hkq hS => ?_)
                replace hP := mo_kept hAd hP (fun q hq => hkq q (mo_lt hP hq) (hAm q hq))
                replace hZ : ∀ q : Nat, H1.size ≤ q → A q := fun q hq => hZ q (Nat.le_trans hz hq)
                clear hV hkq hz
                have hV := hV1
                refine lv_aload_n hx hb dL_law_319 rfl (lv_at hl 2 rfl) ?_
                refine lv_aload_n hx hb dL_law_320 rfl (lv_at hl 0 rfl) ?_
                refine lv_iload hx hb dL_law_321 (lv_at hl 4 rfl) ?_
                refine lv_iconst hx hb dL_law_323 kc_1 ?_
                refine lv_iadd hx hb dL_law_324 ?_
                obtain ⟨hi, h⟩ := h
                refine va_sld hx hb hX hbl hbA hS hi dL_law_325 ?_
                refine lv_aload_n hx hb dL_law_326 rfl (lv_at hl 0 rfl) ?_
                refine lv_iload hx hb dL_law_327 (lv_at hl 4 rfl) ?_
                refine lv_iconst hx hb dL_law_329 kc_2 ?_
                refine lv_iadd hx hb dL_law_330 ?_
                obtain ⟨hi, h⟩ := h
                refine va_sld hx hb hX hbl hbA hS hi dL_law_331 ?_
                refine mA_i (As := [.int (xs (Int32.toNatClampNeg (x4 + (1 : Int32)))), .int (xs (Int32.toNatClampNeg (x4 + (2 : Int32))))]) (rest := [.int r_31]) S hK.1 hP hS hF (mt4_named l hAd (xs (Int32.toNatClampNeg (x4 + (1 : Int32)))) (xs (Int32.toNatClampNeg (x4 + (2 : Int32)))) M _ h) (cwV 2 S.2.2.2.2 (lw_V q1751 q1752 q1753 q145 q1754) rfl rfl rfl cdX4_named ⟨Nat.le_of_ble_eq_true rfl, Nat.le_of_ble_eq_true rfl⟩) rfl rfl hl.1 (Nat.le_of_ble_eq_true rfl) dL_law_332 hk (fun r_35 M_36 H1 locs h hP1 hz hkq hS => ?_)
                replace hV := hV.kept (fun b9 x9 hb9 => hkq b9 (hV.lt hb9) (fun hm => hAm b9 hm (hV.inA hb9)))
                replace hZ : ∀ q : Nat, H1.size ≤ q → A q := fun q hq => hZ q (Nat.le_trans hz hq)
                clear hP hkq hz
                have hP := hP1
                refine lv_icmp_eq (tgt := 1243) hx hb dL_law_335 (by decide) (fun c_37 => ?_) (fun c_37 => ?_)
                · replace h := h.1 c_37
                  exact C1243 _ ih _ _ _ _ _ _ _ _ hV hP hZ hS hk (lv_sub hl [0, 1, 2, 3, 4] rfl) h
                · replace h := h.2 c_37
                  refine lv_iconst hx hb dL_law_338 kc_0 ?_
                  exact h.elim
              · replace h := h.2 c_30
                by_cases c_38 : v_2 = 4
                · replace h := h.1 c_38
                  refine lv_tableIn (tgt := 340) hx hb dL_law_40 (by rw [c_38]; decide) (by rw [c_38]; decide) (by rw [c_38]; rfl) (by decide) ?_
                  refine lv_aload_n hx hb dL_law_340 rfl (lv_at hl 1 rfl) ?_
                  refine lv_aload_n hx hb dL_law_341 rfl (lv_at hl 0 rfl) ?_
                  refine lv_iload hx hb dL_law_342 (lv_at hl 4 rfl) ?_
                  refine lv_iconst hx hb dL_law_344 kc_1 ?_
                  refine lv_iadd hx hb dL_law_345 ?_
                  obtain ⟨hi, h⟩ := h
                  refine va_sld hx hb hX hbl hbA hS hi dL_law_346 ?_
                  refine lv_aload_n hx hb dL_law_347 rfl (lv_at hl 0 rfl) ?_
                  refine lv_iload hx hb dL_law_348 (lv_at hl 4 rfl) ?_
                  refine lv_iconst hx hb dL_law_350 kc_2 ?_
                  refine lv_iadd hx hb dL_law_351 ?_
                  obtain ⟨hi, h⟩ := h
                  refine va_sld hx hb hX hbl hbA hS hi dL_law_352 ?_
                  refine lv_aload_n hx hb dL_law_353 rfl (lv_at hl 3 rfl) ?_
                  obtain ⟨mc_40, ms_41, hc1, hc2, h⟩ := h
                  refine ly_i (lr_SH (As := [.ref x, .int (xs (Int32.toNatClampNeg (x4 + (1 : Int32)))), .int (xs (Int32.toNatClampNeg (x4 + (2 : Int32)))), .ref out]) (rest := []) S hK hG hV hS hAA hZ (mvX0_look l hT x (xs (Int32.toNatClampNeg (x4 + (1 : Int32)))) (xs (Int32.toNatClampNeg (x4 + (2 : Int32)))) out V mc_40 ms_41 _ _ h) (vx_cwSW 4 S.2.2.2.2 (lw_SW q1324 q1325 q138 q1326) rfl rfl rfl cdX0_look ⟨Nat.le_of_ble_eq_true rfl, Nat.le_of_ble_eq_true rfl⟩) rfl hl.1 (Nat.le_of_ble_eq_true rfl) dL_law_354 ⟨hc1, hc2⟩) hS hAA (fun r_39 V_42 H1 locs h hV1 hz hkq hS => ?_)
                  replace hP := mo_kept hAd hP (fun q hq => hkq q (mo_lt hP hq) (hAm q hq))
                  replace hZ : ∀ q : Nat, H1.size ≤ q → A q := fun q hq => hZ q (Nat.le_trans hz hq)
                  clear hV hkq hz
                  have hV := hV1
                  have hk : kc + mc_40 ≤ 1200384 ∧ ks + ms_41 ≤ 5490858 := ⟨hc1, hc2⟩
                  refine lv_istore (lv' := [(5, .int r_39), (0, .ref b), (1, .ref x), (2, .ref m0), (3, .ref out), (4, .int x4)]) hx hb dL_law_357 hl (by decide) rfl (fun ls hl => ?_)
                  refine lv_aload_n hx hb dL_law_359 rfl (lv_at hl 3 rfl) ?_
                  refine lv_aload_n hx hb dL_law_360 rfl (lv_at hl 1 rfl) ?_
                  refine lv_iload hx hb dL_law_361 (lv_at hl 5 rfl) ?_
                  refine lv_iconst hx hb dL_law_363 kc_1 ?_
                  refine lv_iadd hx hb dL_law_364 ?_
                  obtain ⟨hi, h⟩ := h
                  refine va_sld hx hb hX hbl hbA hS hi dL_law_365 ?_
                  refine lv_aload_n hx hb dL_law_366 rfl (lv_at hl 1 rfl) ?_
                  refine lv_iload hx hb dL_law_367 (lv_at hl 5 rfl) ?_
                  refine lv_iconst hx hb dL_law_369 kc_2 ?_
                  refine lv_iadd hx hb dL_law_370 ?_
                  obtain ⟨hi, h⟩ := h
                  refine va_sld hx hb hX hbl hbA hS hi dL_law_371 ?_
                  refine mA_i (As := [.int (xs (Int32.toNatClampNeg (x4 + (1 : Int32)))), .int (xs (Int32.toNatClampNeg (x4 + (2 : Int32))))]) (rest := []) S hK.1 hP hS hF (mt4_look l hAd (xs (Int32.toNatClampNeg (x4 + (1 : Int32)))) (xs (Int32.toNatClampNeg (x4 + (2 : Int32)))) M _ h) (cwV 2 S.2.2.2.2 (lw_V q1755 q1756 q1757 q145 q1758) rfl rfl rfl cdX4_look ⟨Nat.le_of_ble_eq_true rfl, Nat.le_of_ble_eq_true rfl⟩) rfl rfl hl.1 (Nat.le_of_ble_eq_true rfl) dL_law_372 hk (fun r_43 M_44 H1 locs h hP1 hz hkq hS => ?_)
                  replace hV := hV.kept (fun b9 x9 hb9 => hkq b9 (hV.lt hb9) (fun hm => hAm b9 hm (hV.inA hb9)))
                  replace hZ : ∀ q : Nat, H1.size ≤ q → A q := fun q hq => hZ q (Nat.le_trans hz hq)
                  clear hP hkq hz
                  have hP := hP1
                  refine lv_istore (lv' := [(6, .int r_43), (5, .int r_39), (0, .ref b), (1, .ref x), (2, .ref m0), (3, .ref out), (4, .int x4)]) hx hb dL_law_375 hl (by decide) rfl (fun ls hl => ?_)
                  refine lv_aload_n hx hb dL_law_377 rfl (lv_at hl 4 rfl) ?_
                  refine mA_i (As := []) (rest := []) S hK.1 hP hS hF (mt4_thrown l hAd M_44 _ h) (cwV 0 S.2.2.2.2 (lw_V q1620 q1621 q1622 q145 q1623) rfl rfl rfl cdX4_thrown ⟨Nat.le_of_ble_eq_true rfl, Nat.le_of_ble_eq_true rfl⟩) rfl rfl hl.1 (Nat.le_of_ble_eq_true rfl) dL_law_378 hk (fun r_45 M_46 H1 locs h hP1 hz hkq hS => ?_)
                  replace hV := hV.kept (fun b9 x9 hb9 => hkq b9 (hV.lt hb9) (fun hm => hAm b9 hm (hV.inA hb9)))
                  replace hZ : ∀ q : Nat, H1.size ≤ q → A q := fun q hq => hZ q (Nat.le_trans hz hq)
                  clear hP hkq hz
                  have hP := hP1
                  refine lv_iload hx hb dL_law_381 (lv_at hl 1 rfl) ?_
                  refine lv_icmp_eq (tgt := 388) hx hb dL_law_383 (by decide) (fun c_47 => ?_) (fun c_47 => ?_)
                  · replace h := h.1 c_47
                    refine lv_iload hx hb dL_law_388 (lv_at hl 1 rfl) ?_
                    refine lv_if_ne (tgt := 405) hx hb dL_law_390 (by decide) (fun c_48 => ?_) (fun c_48 => ?_)
                    · replace h := h.2 c_48
                      exact C405 _ ih _ _ _ _ _ _ _ _ hV hP hZ hS hk (lv_sub hl [2, 3, 4, 5, 6] rfl) h
                    · replace h := h.1 c_48
                      refine lv_aload_n hx hb dL_law_393 rfl (lv_at hl 5 rfl) ?_
                      refine lv_iconst hx hb dL_law_394 kc_0 ?_
                      obtain ⟨g_49, e_50, h⟩ := bO_e h
                      refine vl_l S hK hV e_50 dL_law_395 ?_
                      refine lv_iload hx hb dL_law_396 (lv_at hl 0 rfl) ?_
                      refine lv_i2l hx hb dL_law_398 rfl ?_
                      refine W.lcmp hx hb dL_law_399 ?_
                      refine lv_if_eq (tgt := 405) hx hb dL_law_400 (by decide) (fun c_51 => ?_) (fun c_51 => ?_)
                      · replace h := h.1 ((lg_cmp_eq _ _).mp c_51)
                        exact C405 _ ih _ _ _ _ _ _ _ _ hV hP hZ hS hk (lv_sub hl [2, 3, 4, 5, 6] rfl) h
                      · replace h := h.2 (fun q => c_51 ((lg_cmp_eq _ _).mpr q))
                        refine lv_iconst hx hb dL_law_403 kc_0 ?_
                        exact h.elim
                  · replace h := h.2 c_47
                    refine lv_iconst hx hb dL_law_386 kc_0 ?_
                    exact h.elim
                · replace h := h.2 c_38
                  by_cases c_52 : v_2 = 5
                  · replace h := h.1 c_52
                    refine lv_tableIn (tgt := 408) hx hb dL_law_40 (by rw [c_52]; decide) (by rw [c_52]; decide) (by rw [c_52]; rfl) (by decide) ?_
                    refine lv_aload_n hx hb dL_law_408 rfl (lv_at hl 1 rfl) ?_
                    refine lv_aload_n hx hb dL_law_409 rfl (lv_at hl 0 rfl) ?_
                    refine lv_iload hx hb dL_law_410 (lv_at hl 4 rfl) ?_
                    refine lv_iconst hx hb dL_law_412 kc_1 ?_
                    refine lv_iadd hx hb dL_law_413 ?_
                    obtain ⟨hi, h⟩ := h
                    refine va_sld hx hb hX hbl hbA hS hi dL_law_414 ?_
                    refine lv_aload_n hx hb dL_law_415 rfl (lv_at hl 0 rfl) ?_
                    refine lv_iload hx hb dL_law_416 (lv_at hl 4 rfl) ?_
                    refine lv_iconst hx hb dL_law_418 kc_2 ?_
                    refine lv_iadd hx hb dL_law_419 ?_
                    obtain ⟨hi, h⟩ := h
                    refine va_sld hx hb hX hbl hbA hS hi dL_law_420 ?_
                    obtain ⟨o_55, e_56, h⟩ := bO_e h
                    refine lk_i (lr_V (As := [.int (xs (Int32.toNatClampNeg (x4 + (1 : Int32)))), .int (xs (Int32.toNatClampNeg (x4 + (2 : Int32))))]) (rest := []) S hK hG hV hS hAA hZ e_56 rfl (mvX1_teller l x (xs (Int32.toNatClampNeg (x4 + (1 : Int32)))) (xs (Int32.toNatClampNeg (x4 + (2 : Int32)))) V _ h) (cwV 2 S.2.2.2.2 (lw_V q964 q965 q966 q139 q967) rfl rfl rfl cdX1_teller ⟨Nat.le_of_ble_eq_true rfl, Nat.le_of_ble_eq_true rfl⟩) rfl hl.1 (Nat.le_of_ble_eq_true rfl) dL_law_421 hk) hS hAA (fun r_53 V_54 H1 locs h hV1 hz hkq hS => ?_)
                    replace hP := mo_kept hAd hP (fun q hq => hkq q (mo_lt hP hq) (hAm q hq))
                    replace hZ : ∀ q : Nat, H1.size ≤ q → A q := fun q hq => hZ q (Nat.le_trans hz hq)
                    clear hV hkq hz
                    have hV := hV1
                    refine lv_aload_n hx hb dL_law_424 rfl (lv_at hl 2 rfl) ?_
                    refine lv_aload_n hx hb dL_law_425 rfl (lv_at hl 0 rfl) ?_
                    refine lv_iload hx hb dL_law_426 (lv_at hl 4 rfl) ?_
                    refine lv_iconst hx hb dL_law_428 kc_1 ?_
                    refine lv_iadd hx hb dL_law_429 ?_
                    obtain ⟨hi, h⟩ := h
                    refine va_sld hx hb hX hbl hbA hS hi dL_law_430 ?_
                    refine lv_aload_n hx hb dL_law_431 rfl (lv_at hl 0 rfl) ?_
                    refine lv_iload hx hb dL_law_432 (lv_at hl 4 rfl) ?_
                    refine lv_iconst hx hb dL_law_434 kc_2 ?_
                    refine lv_iadd hx hb dL_law_435 ?_
                    obtain ⟨hi, h⟩ := h
                    refine va_sld hx hb hX hbl hbA hS hi dL_law_436 ?_
                    refine mA_i (As := [.int (xs (Int32.toNatClampNeg (x4 + (1 : Int32)))), .int (xs (Int32.toNatClampNeg (x4 + (2 : Int32))))]) (rest := [.int r_53]) S hK.1 hP hS hF (mt4_teller l hAd (xs (Int32.toNatClampNeg (x4 + (1 : Int32)))) (xs (Int32.toNatClampNeg (x4 + (2 : Int32)))) M _ h) (cwV 2 S.2.2.2.2 (lw_V q1767 q1768 q1769 q145 q1770) rfl rfl rfl cdX4_teller ⟨Nat.le_of_ble_eq_true rfl, Nat.le_of_ble_eq_true rfl⟩) rfl rfl hl.1 (Nat.le_of_ble_eq_true rfl) dL_law_437 hk (fun r_57 M_58 H1 locs h hP1 hz hkq hS => ?_)
                    replace hV := hV.kept (fun b9 x9 hb9 => hkq b9 (hV.lt hb9) (fun hm => hAm b9 hm (hV.inA hb9)))
                    replace hZ : ∀ q : Nat, H1.size ≤ q → A q := fun q hq => hZ q (Nat.le_trans hz hq)
                    clear hP hkq hz
                    have hP := hP1
                    refine lv_icmp_eq (tgt := 1243) hx hb dL_law_440 (by decide) (fun c_59 => ?_) (fun c_59 => ?_)
                    · replace h := h.1 c_59
                      exact C1243 _ ih _ _ _ _ _ _ _ _ hV hP hZ hS hk (lv_sub hl [0, 1, 2, 3, 4] rfl) h
                    · replace h := h.2 c_59
                      refine lv_iconst hx hb dL_law_443 kc_0 ?_
                      exact h.elim
                  · replace h := h.2 c_52
                    by_cases c_60 : v_2 = 6
                    · replace h := h.1 c_60
                      refine lv_tableIn (tgt := 445) hx hb dL_law_40 (by rw [c_60]; decide) (by rw [c_60]; decide) (by rw [c_60]; rfl) (by decide) ?_
                      refine lv_aload_n hx hb dL_law_445 rfl (lv_at hl 1 rfl) ?_
                      refine lv_aload_n hx hb dL_law_446 rfl (lv_at hl 0 rfl) ?_
                      refine lv_iload hx hb dL_law_447 (lv_at hl 4 rfl) ?_
                      refine lv_iconst hx hb dL_law_449 kc_1 ?_
                      refine lv_iadd hx hb dL_law_450 ?_
                      obtain ⟨hi, h⟩ := h
                      refine va_sld hx hb hX hbl hbA hS hi dL_law_451 ?_
                      refine lv_aload_n hx hb dL_law_452 rfl (lv_at hl 0 rfl) ?_
                      refine lv_iload hx hb dL_law_453 (lv_at hl 4 rfl) ?_
                      refine lv_iconst hx hb dL_law_455 kc_2 ?_
                      refine lv_iadd hx hb dL_law_456 ?_
                      obtain ⟨hi, h⟩ := h
                      refine va_sld hx hb hX hbl hbA hS hi dL_law_457 ?_
                      obtain ⟨o_63, e_64, h⟩ := bO_e h
                      refine lk_i (lr_V (As := [.int (xs (Int32.toNatClampNeg (x4 + (1 : Int32)))), .int (xs (Int32.toNatClampNeg (x4 + (2 : Int32))))]) (rest := []) S hK hG hV hS hAA hZ e_64 rfl (mvX1_line l x (xs (Int32.toNatClampNeg (x4 + (1 : Int32)))) (xs (Int32.toNatClampNeg (x4 + (2 : Int32)))) V _ h) (cwV 2 S.2.2.2.2 (lw_V q975 q976 q977 q139 q978) rfl rfl rfl cdX1_line ⟨Nat.le_of_ble_eq_true rfl, Nat.le_of_ble_eq_true rfl⟩) rfl hl.1 (Nat.le_of_ble_eq_true rfl) dL_law_458 hk) hS hAA (fun r_61 V_62 H1 locs h hV1 hz hkq hS => ?_)
                      replace hP := mo_kept hAd hP (fun q hq => hkq q (mo_lt hP hq) (hAm q hq))
                      replace hZ : ∀ q : Nat, H1.size ≤ q → A q := fun q hq => hZ q (Nat.le_trans hz hq)
                      clear hV hkq hz
                      have hV := hV1
                      refine lv_aload_n hx hb dL_law_461 rfl (lv_at hl 2 rfl) ?_
                      refine lv_aload_n hx hb dL_law_462 rfl (lv_at hl 0 rfl) ?_
                      refine lv_iload hx hb dL_law_463 (lv_at hl 4 rfl) ?_
                      refine lv_iconst hx hb dL_law_465 kc_1 ?_
                      refine lv_iadd hx hb dL_law_466 ?_
                      obtain ⟨hi, h⟩ := h
                      refine va_sld hx hb hX hbl hbA hS hi dL_law_467 ?_
                      refine lv_aload_n hx hb dL_law_468 rfl (lv_at hl 0 rfl) ?_
                      refine lv_iload hx hb dL_law_469 (lv_at hl 4 rfl) ?_
                      refine lv_iconst hx hb dL_law_471 kc_2 ?_
                      refine lv_iadd hx hb dL_law_472 ?_
                      obtain ⟨hi, h⟩ := h
                      refine va_sld hx hb hX hbl hbA hS hi dL_law_473 ?_
                      refine mA_i (As := [.int (xs (Int32.toNatClampNeg (x4 + (1 : Int32)))), .int (xs (Int32.toNatClampNeg (x4 + (2 : Int32))))]) (rest := [.int r_61]) S hK.1 hP hS hF (mt4_line l hAd (xs (Int32.toNatClampNeg (x4 + (1 : Int32)))) (xs (Int32.toNatClampNeg (x4 + (2 : Int32)))) M _ h) (cwV 2 S.2.2.2.2 (lw_V q1775 q1776 q1777 q145 q1778) rfl rfl rfl cdX4_line ⟨Nat.le_of_ble_eq_true rfl, Nat.le_of_ble_eq_true rfl⟩) rfl rfl hl.1 (Nat.le_of_ble_eq_true rfl) dL_law_474 hk (fun r_65 M_66 H1 locs h hP1 hz hkq hS => ?_)
                      replace hV := hV.kept (fun b9 x9 hb9 => hkq b9 (hV.lt hb9) (fun hm => hAm b9 hm (hV.inA hb9)))
                      replace hZ : ∀ q : Nat, H1.size ≤ q → A q := fun q hq => hZ q (Nat.le_trans hz hq)
                      clear hP hkq hz
                      have hP := hP1
                      refine lv_icmp_eq (tgt := 1243) hx hb dL_law_477 (by decide) (fun c_67 => ?_) (fun c_67 => ?_)
                      · replace h := h.1 c_67
                        exact C1243 _ ih _ _ _ _ _ _ _ _ hV hP hZ hS hk (lv_sub hl [0, 1, 2, 3, 4] rfl) h
                      · replace h := h.2 c_67
                        refine lv_iconst hx hb dL_law_480 kc_0 ?_
                        exact h.elim
                    · replace h := h.2 c_60
                      by_cases c_68 : v_2 = 7
                      · replace h := h.1 c_68
                        refine lv_tableIn (tgt := 482) hx hb dL_law_40 (by rw [c_68]; decide) (by rw [c_68]; decide) (by rw [c_68]; rfl) (by decide) ?_
                        refine lv_aload_n hx hb dL_law_482 rfl (lv_at hl 1 rfl) ?_
                        refine lv_aload_n hx hb dL_law_483 rfl (lv_at hl 0 rfl) ?_
                        refine lv_iload hx hb dL_law_484 (lv_at hl 4 rfl) ?_
                        refine lv_iconst hx hb dL_law_486 kc_1 ?_
                        refine lv_iadd hx hb dL_law_487 ?_
                        obtain ⟨hi, h⟩ := h
                        refine va_sld hx hb hX hbl hbA hS hi dL_law_488 ?_
                        refine lv_if_eq (tgt := 496) hx hb dL_law_489 (by decide) (fun c_69 => ?_) (fun c_69 => ?_)
                        · replace h := h.1 c_69
                          refine lv_iconst hx hb dL_law_496 kc_0 ?_
                          exact C497 _ ih _ _ _ _ _ _ _ _ _ hV hP hZ hS hk (lv_sub hl [0, 1, 2, 3, 4] rfl) h
                        · replace h := h.2 c_69
                          refine lv_iconst hx hb dL_law_492 kc_1 ?_
                          refine lv_goto (tgt := 497) hx hb dL_law_493 (by decide) ?_
                          exact C497 _ ih _ _ _ _ _ _ _ _ _ hV hP hZ hS hk (lv_sub hl [0, 1, 2, 3, 4] rfl) h
                      · replace h := h.2 c_68
                        by_cases c_80 : v_2 = 8
                        · replace h := h.1 c_80
                          refine lv_tableIn (tgt := 571) hx hb dL_law_40 (by rw [c_80]; decide) (by rw [c_80]; decide) (by rw [c_80]; rfl) (by decide) ?_
                          refine lv_aload_n hx hb dL_law_571 rfl (lv_at hl 1 rfl) ?_
                          obtain ⟨o_83, e_84, h⟩ := bO_e h
                          refine lk_i (lr_V (As := []) (rest := []) S hK hG hV hS hAA hZ e_84 rfl (mvX1_undo l x V _ h) (cwV 0 S.2.2.2.2 (lw_V q1007 q1008 q1009 q139 q1010) rfl rfl rfl cdX1_undo ⟨Nat.le_of_ble_eq_true rfl, Nat.le_of_ble_eq_true rfl⟩) rfl hl.1 (Nat.le_of_ble_eq_true rfl) dL_law_572 hk) hS hAA (fun r_81 V_82 H1 locs h hV1 hz hkq hS => ?_)
                          replace hP := mo_kept hAd hP (fun q hq => hkq q (mo_lt hP hq) (hAm q hq))
                          replace hZ : ∀ q : Nat, H1.size ≤ q → A q := fun q hq => hZ q (Nat.le_trans hz hq)
                          clear hV hkq hz
                          have hV := hV1
                          refine lv_aload_n hx hb dL_law_575 rfl (lv_at hl 2 rfl) ?_
                          refine mA_i (As := []) (rest := [.int r_81]) S hK.1 hP hS hF (mt4_undo l hAd M _ h) (cwV 0 S.2.2.2.2 (lw_V q1787 q1788 q1789 q145 q1790) rfl rfl rfl cdX4_undo ⟨Nat.le_of_ble_eq_true rfl, Nat.le_of_ble_eq_true rfl⟩) rfl rfl hl.1 (Nat.le_of_ble_eq_true rfl) dL_law_576 hk (fun r_85 M_86 H1 locs h hP1 hz hkq hS => ?_)
                          replace hV := hV.kept (fun b9 x9 hb9 => hkq b9 (hV.lt hb9) (fun hm => hAm b9 hm (hV.inA hb9)))
                          replace hZ : ∀ q : Nat, H1.size ≤ q → A q := fun q hq => hZ q (Nat.le_trans hz hq)
                          clear hP hkq hz
                          have hP := hP1
                          refine lv_icmp_eq (tgt := 1243) hx hb dL_law_579 (by decide) (fun c_87 => ?_) (fun c_87 => ?_)
                          · replace h := h.1 c_87
                            exact C1243 _ ih _ _ _ _ _ _ _ _ hV hP hZ hS hk (lv_sub hl [0, 1, 2, 3, 4] rfl) h
                          · replace h := h.2 c_87
                            refine lv_iconst hx hb dL_law_582 kc_0 ?_
                            exact h.elim
                        · replace h := h.2 c_80
                          by_cases c_88 : v_2 = 9
                          · replace h := h.1 c_88
                            refine lv_tableIn (tgt := 584) hx hb dL_law_40 (by rw [c_88]; decide) (by rw [c_88]; decide) (by rw [c_88]; rfl) (by decide) ?_
                            refine lv_aload_n hx hb dL_law_584 rfl (lv_at hl 1 rfl) ?_
                            refine lv_aload_n hx hb dL_law_585 rfl (lv_at hl 0 rfl) ?_
                            refine lv_iload hx hb dL_law_586 (lv_at hl 4 rfl) ?_
                            refine lv_iconst hx hb dL_law_588 kc_1 ?_
                            refine lv_iadd hx hb dL_law_589 ?_
                            obtain ⟨hi, h⟩ := h
                            refine va_sld hx hb hX hbl hbA hS hi dL_law_590 ?_
                            obtain ⟨o_91, e_92, h⟩ := bO_e h
                            refine lk_i (lr_V (As := [.int (xs (Int32.toNatClampNeg (x4 + (1 : Int32))))]) (rest := []) S hK hG hV hS hAA hZ e_92 rfl (mvX1_hear l x (xs (Int32.toNatClampNeg (x4 + (1 : Int32)))) V _ h) (cwV 1 S.2.2.2.2 (lw_V q1020 q1021 q1022 q139 q1023) rfl rfl rfl cdX1_hear ⟨Nat.le_of_ble_eq_true rfl, Nat.le_of_ble_eq_true rfl⟩) rfl hl.1 (Nat.le_of_ble_eq_true rfl) dL_law_591 hk) hS hAA (fun r_89 V_90 H1 locs h hV1 hz hkq hS => ?_)
                            replace hP := mo_kept hAd hP (fun q hq => hkq q (mo_lt hP hq) (hAm q hq))
                            replace hZ : ∀ q : Nat, H1.size ≤ q → A q := fun q hq => hZ q (Nat.le_trans hz hq)
                            clear hV hkq hz
                            have hV := hV1
                            refine lv_aload_n hx hb dL_law_594 rfl (lv_at hl 2 rfl) ?_
                            refine lv_aload_n hx hb dL_law_595 rfl (lv_at hl 0 rfl) ?_
                            refine lv_iload hx hb dL_law_596 (lv_at hl 4 rfl) ?_
                            refine lv_iconst hx hb dL_law_598 kc_1 ?_
                            refine lv_iadd hx hb dL_law_599 ?_
                            obtain ⟨hi, h⟩ := h
                            refine va_sld hx hb hX hbl hbA hS hi dL_law_600 ?_
                            refine mA_i (As := [.int (xs (Int32.toNatClampNeg (x4 + (1 : Int32))))]) (rest := [.int r_89]) S hK.1 hP hS hF (mt4_hear l hAd (xs (Int32.toNatClampNeg (x4 + (1 : Int32)))) M _ h) (cwV 1 S.2.2.2.2 (lw_V q1791 q1792 q1793 q145 q1794) rfl rfl rfl cdX4_hear ⟨Nat.le_of_ble_eq_true rfl, Nat.le_of_ble_eq_true rfl⟩) rfl rfl hl.1 (Nat.le_of_ble_eq_true rfl) dL_law_601 hk (fun r_93 M_94 H1 locs h hP1 hz hkq hS => ?_)
                            replace hV := hV.kept (fun b9 x9 hb9 => hkq b9 (hV.lt hb9) (fun hm => hAm b9 hm (hV.inA hb9)))
                            replace hZ : ∀ q : Nat, H1.size ≤ q → A q := fun q hq => hZ q (Nat.le_trans hz hq)
                            clear hP hkq hz
                            have hP := hP1
                            refine lv_icmp_eq (tgt := 1243) hx hb dL_law_604 (by decide) (fun c_95 => ?_) (fun c_95 => ?_)
                            · replace h := h.1 c_95
                              exact C1243 _ ih _ _ _ _ _ _ _ _ hV hP hZ hS hk (lv_sub hl [0, 1, 2, 3, 4] rfl) h
                            · replace h := h.2 c_95
                              refine lv_iconst hx hb dL_law_607 kc_0 ?_
                              exact h.elim
                          · replace h := h.2 c_88
                            by_cases c_96 : v_2 = 10
                            · replace h := h.1 c_96
                              refine lv_tableIn (tgt := 609) hx hb dL_law_40 (by rw [c_96]; decide) (by rw [c_96]; decide) (by rw [c_96]; rfl) (by decide) ?_
                              refine lv_aload_n hx hb dL_law_609 rfl (lv_at hl 1 rfl) ?_
                              refine lv_aload_n hx hb dL_law_610 rfl (lv_at hl 0 rfl) ?_
                              refine lv_iload hx hb dL_law_611 (lv_at hl 4 rfl) ?_
                              refine lv_iconst hx hb dL_law_613 kc_1 ?_
                              refine lv_iadd hx hb dL_law_614 ?_
                              obtain ⟨hi, h⟩ := h
                              refine va_sld hx hb hX hbl hbA hS hi dL_law_615 ?_
                              obtain ⟨o_99, e_100, h⟩ := bO_e h
                              refine lk_i (lr_V (As := [.int (xs (Int32.toNatClampNeg (x4 + (1 : Int32))))]) (rest := []) S hK hG hV hS hAA hZ e_100 rfl (mvX1_word l x (xs (Int32.toNatClampNeg (x4 + (1 : Int32)))) V _ h) (cwV 1 S.2.2.2.2 (lw_V q1028 q1029 q1030 q139 q1031) rfl rfl rfl cdX1_word ⟨Nat.le_of_ble_eq_true rfl, Nat.le_of_ble_eq_true rfl⟩) rfl hl.1 (Nat.le_of_ble_eq_true rfl) dL_law_616 hk) hS hAA (fun r_97 V_98 H1 locs h hV1 hz hkq hS => ?_)
                              replace hP := mo_kept hAd hP (fun q hq => hkq q (mo_lt hP hq) (hAm q hq))
                              replace hZ : ∀ q : Nat, H1.size ≤ q → A q := fun q hq => hZ q (Nat.le_trans hz hq)
                              clear hV hkq hz
                              have hV := hV1
                              refine lv_aload_n hx hb dL_law_619 rfl (lv_at hl 2 rfl) ?_
                              refine lv_aload_n hx hb dL_law_620 rfl (lv_at hl 0 rfl) ?_
                              refine lv_iload hx hb dL_law_621 (lv_at hl 4 rfl) ?_
                              refine lv_iconst hx hb dL_law_623 kc_1 ?_
                              refine lv_iadd hx hb dL_law_624 ?_
                              obtain ⟨hi, h⟩ := h
                              refine va_sld hx hb hX hbl hbA hS hi dL_law_625 ?_
                              refine mA_i (As := [.int (xs (Int32.toNatClampNeg (x4 + (1 : Int32))))]) (rest := [.int r_97]) S hK.1 hP hS hF (mt4_word l hAd (xs (Int32.toNatClampNeg (x4 + (1 : Int32)))) M _ h) (cwV 1 S.2.2.2.2 (lw_V q1802 q1803 q1804 q145 q1805) rfl rfl rfl cdX4_word ⟨Nat.le_of_ble_eq_true rfl, Nat.le_of_ble_eq_true rfl⟩) rfl rfl hl.1 (Nat.le_of_ble_eq_true rfl) dL_law_626 hk (fun r_101 M_102 H1 locs h hP1 hz hkq hS => ?_)
                              replace hV := hV.kept (fun b9 x9 hb9 => hkq b9 (hV.lt hb9) (fun hm => hAm b9 hm (hV.inA hb9)))
                              replace hZ : ∀ q : Nat, H1.size ≤ q → A q := fun q hq => hZ q (Nat.le_trans hz hq)
                              clear hP hkq hz
                              have hP := hP1
                              refine lv_icmp_eq (tgt := 1243) hx hb dL_law_629 (by decide) (fun c_103 => ?_) (fun c_103 => ?_)
                              · replace h := h.1 c_103
                                exact C1243 _ ih _ _ _ _ _ _ _ _ hV hP hZ hS hk (lv_sub hl [0, 1, 2, 3, 4] rfl) h
                              · replace h := h.2 c_103
                                refine lv_iconst hx hb dL_law_632 kc_0 ?_
                                exact h.elim
                            · replace h := h.2 c_96
                              by_cases c_104 : v_2 = 11
                              · replace h := h.1 c_104
                                refine lv_tableIn (tgt := 634) hx hb dL_law_40 (by rw [c_104]; decide) (by rw [c_104]; decide) (by rw [c_104]; rfl) (by decide) ?_
                                refine lv_aload_n hx hb dL_law_634 rfl (lv_at hl 1 rfl) ?_
                                refine lv_aload_n hx hb dL_law_635 rfl (lv_at hl 0 rfl) ?_
                                refine lv_iload hx hb dL_law_636 (lv_at hl 4 rfl) ?_
                                refine lv_iconst hx hb dL_law_638 kc_1 ?_
                                refine lv_iadd hx hb dL_law_639 ?_
                                obtain ⟨hi, h⟩ := h
                                refine va_sld hx hb hX hbl hbA hS hi dL_law_640 ?_
                                obtain ⟨o_107, e_108, h⟩ := bO_e h
                                refine lk_i (lr_V (As := [.int (xs (Int32.toNatClampNeg (x4 + (1 : Int32))))]) (rest := []) S hK hG hV hS hAA hZ e_108 rfl (mvX1_led l x (xs (Int32.toNatClampNeg (x4 + (1 : Int32)))) V _ h) (cwV 1 S.2.2.2.2 (lw_V q1102 q1103 q1104 q139 q1105) rfl rfl rfl cdX1_led ⟨Nat.le_of_ble_eq_true rfl, Nat.le_of_ble_eq_true rfl⟩) rfl hl.1 (Nat.le_of_ble_eq_true rfl) dL_law_641 hk) hS hAA (fun r_105 V_106 H1 locs h hV1 hz hkq hS => ?_)
                                replace hP := mo_kept hAd hP (fun q hq => hkq q (mo_lt hP hq) (hAm q hq))
                                replace hZ : ∀ q : Nat, H1.size ≤ q → A q := fun q hq => hZ q (Nat.le_trans hz hq)
                                clear hV hkq hz
                                have hV := hV1
                                refine lv_aload_n hx hb dL_law_644 rfl (lv_at hl 2 rfl) ?_
                                refine lv_aload_n hx hb dL_law_645 rfl (lv_at hl 0 rfl) ?_
                                refine lv_iload hx hb dL_law_646 (lv_at hl 4 rfl) ?_
                                refine lv_iconst hx hb dL_law_648 kc_1 ?_
                                refine lv_iadd hx hb dL_law_649 ?_
                                obtain ⟨hi, h⟩ := h
                                refine va_sld hx hb hX hbl hbA hS hi dL_law_650 ?_
                                refine mA_i (As := [.int (xs (Int32.toNatClampNeg (x4 + (1 : Int32))))]) (rest := [.int r_105]) S hK.1 hP hS hF (mt4_led l hAd (xs (Int32.toNatClampNeg (x4 + (1 : Int32)))) M _ h) (cwV 1 S.2.2.2.2 (lw_V q1845 q1846 q1847 q145 q1848) rfl rfl rfl cdX4_led ⟨Nat.le_of_ble_eq_true rfl, Nat.le_of_ble_eq_true rfl⟩) rfl rfl hl.1 (Nat.le_of_ble_eq_true rfl) dL_law_651 hk (fun r_109 M_110 H1 locs h hP1 hz hkq hS => ?_)
                                replace hV := hV.kept (fun b9 x9 hb9 => hkq b9 (hV.lt hb9) (fun hm => hAm b9 hm (hV.inA hb9)))
                                replace hZ : ∀ q : Nat, H1.size ≤ q → A q := fun q hq => hZ q (Nat.le_trans hz hq)
                                clear hP hkq hz
                                have hP := hP1
                                refine lv_icmp_eq (tgt := 1243) hx hb dL_law_654 (by decide) (fun c_111 => ?_) (fun c_111 => ?_)
                                · replace h := h.1 c_111
                                  exact C1243 _ ih _ _ _ _ _ _ _ _ hV hP hZ hS hk (lv_sub hl [0, 1, 2, 3, 4] rfl) h
                                · replace h := h.2 c_111
                                  refine lv_iconst hx hb dL_law_657 kc_0 ?_
                                  exact h.elim
                              · replace h := h.2 c_104
                                by_cases c_112 : v_2 = 12
                                · replace h := h.1 c_112
                                  refine lv_tableIn (tgt := 659) hx hb dL_law_40 (by rw [c_112]; decide) (by rw [c_112]; decide) (by rw [c_112]; rfl) (by decide) ?_
                                  refine lv_aload_n hx hb dL_law_659 rfl (lv_at hl 1 rfl) ?_
                                  refine lv_aload_n hx hb dL_law_660 rfl (lv_at hl 0 rfl) ?_
                                  refine lv_iload hx hb dL_law_661 (lv_at hl 4 rfl) ?_
                                  refine lv_iconst hx hb dL_law_663 kc_1 ?_
                                  refine lv_iadd hx hb dL_law_664 ?_
                                  obtain ⟨hi, h⟩ := h
                                  refine va_sld hx hb hX hbl hbA hS hi dL_law_665 ?_
                                  refine lv_aload_n hx hb dL_law_666 rfl (lv_at hl 0 rfl) ?_
                                  refine lv_iload hx hb dL_law_667 (lv_at hl 4 rfl) ?_
                                  refine lv_iconst hx hb dL_law_669 kc_2 ?_
                                  refine lv_iadd hx hb dL_law_670 ?_
                                  obtain ⟨hi, h⟩ := h
                                  refine va_sld hx hb hX hbl hbA hS hi dL_law_671 ?_
                                  obtain ⟨o_115, e_116, h⟩ := bO_e h
                                  refine lk_i (lr_V (As := [.int (xs (Int32.toNatClampNeg (x4 + (1 : Int32)))), .int (xs (Int32.toNatClampNeg (x4 + (2 : Int32))))]) (rest := []) S hK hG hV hS hAA hZ e_116 rfl (mvX1_words l x (xs (Int32.toNatClampNeg (x4 + (1 : Int32)))) (xs (Int32.toNatClampNeg (x4 + (2 : Int32)))) V _ h) (cwV 2 S.2.2.2.2 (lw_V q1106 q1107 q1108 q139 q1109) rfl rfl rfl cdX1_words ⟨Nat.le_of_ble_eq_true rfl, Nat.le_of_ble_eq_true rfl⟩) rfl hl.1 (Nat.le_of_ble_eq_true rfl) dL_law_672 hk) hS hAA (fun r_113 V_114 H1 locs h hV1 hz hkq hS => ?_)
                                  replace hP := mo_kept hAd hP (fun q hq => hkq q (mo_lt hP hq) (hAm q hq))
                                  replace hZ : ∀ q : Nat, H1.size ≤ q → A q := fun q hq => hZ q (Nat.le_trans hz hq)
                                  clear hV hkq hz
                                  have hV := hV1
                                  refine lv_aload_n hx hb dL_law_675 rfl (lv_at hl 2 rfl) ?_
                                  refine lv_aload_n hx hb dL_law_676 rfl (lv_at hl 0 rfl) ?_
                                  refine lv_iload hx hb dL_law_677 (lv_at hl 4 rfl) ?_
                                  refine lv_iconst hx hb dL_law_679 kc_1 ?_
                                  refine lv_iadd hx hb dL_law_680 ?_
                                  obtain ⟨hi, h⟩ := h
                                  refine va_sld hx hb hX hbl hbA hS hi dL_law_681 ?_
                                  refine lv_aload_n hx hb dL_law_682 rfl (lv_at hl 0 rfl) ?_
                                  refine lv_iload hx hb dL_law_683 (lv_at hl 4 rfl) ?_
                                  refine lv_iconst hx hb dL_law_685 kc_2 ?_
                                  refine lv_iadd hx hb dL_law_686 ?_
                                  obtain ⟨hi, h⟩ := h
                                  refine va_sld hx hb hX hbl hbA hS hi dL_law_687 ?_
                                  refine mA_i (As := [.int (xs (Int32.toNatClampNeg (x4 + (1 : Int32)))), .int (xs (Int32.toNatClampNeg (x4 + (2 : Int32))))]) (rest := [.int r_113]) S hK.1 hP hS hF (mt4_words l hAd (xs (Int32.toNatClampNeg (x4 + (1 : Int32)))) (xs (Int32.toNatClampNeg (x4 + (2 : Int32)))) M _ h) (cwV 2 S.2.2.2.2 (lw_V q1849 q1850 q1851 q145 q1852) rfl rfl rfl cdX4_words ⟨Nat.le_of_ble_eq_true rfl, Nat.le_of_ble_eq_true rfl⟩) rfl rfl hl.1 (Nat.le_of_ble_eq_true rfl) dL_law_688 hk (fun r_117 M_118 H1 locs h hP1 hz hkq hS => ?_)
                                  replace hV := hV.kept (fun b9 x9 hb9 => hkq b9 (hV.lt hb9) (fun hm => hAm b9 hm (hV.inA hb9)))
                                  replace hZ : ∀ q : Nat, H1.size ≤ q → A q := fun q hq => hZ q (Nat.le_trans hz hq)
                                  clear hP hkq hz
                                  have hP := hP1
                                  refine lv_icmp_eq (tgt := 1243) hx hb dL_law_691 (by decide) (fun c_119 => ?_) (fun c_119 => ?_)
                                  · replace h := h.1 c_119
                                    exact C1243 _ ih _ _ _ _ _ _ _ _ hV hP hZ hS hk (lv_sub hl [0, 1, 2, 3, 4] rfl) h
                                  · replace h := h.2 c_119
                                    refine lv_iconst hx hb dL_law_694 kc_0 ?_
                                    exact h.elim
                                · replace h := h.2 c_112
                                  by_cases c_120 : v_2 = 13
                                  · replace h := h.1 c_120
                                    refine lv_tableIn (tgt := 696) hx hb dL_law_40 (by rw [c_120]; decide) (by rw [c_120]; decide) (by rw [c_120]; rfl) (by decide) ?_
                                    refine lv_aload_n hx hb dL_law_696 rfl (lv_at hl 1 rfl) ?_
                                    refine lv_aload_n hx hb dL_law_697 rfl (lv_at hl 0 rfl) ?_
                                    refine lv_iload hx hb dL_law_698 (lv_at hl 4 rfl) ?_
                                    refine lv_iconst hx hb dL_law_700 kc_1 ?_
                                    refine lv_iadd hx hb dL_law_701 ?_
                                    obtain ⟨hi, h⟩ := h
                                    refine va_sld hx hb hX hbl hbA hS hi dL_law_702 ?_
                                    obtain ⟨o_123, e_124, h⟩ := bO_e h
                                    refine lk_i (lr_V (As := [.int (xs (Int32.toNatClampNeg (x4 + (1 : Int32))))]) (rest := []) S hK hG hV hS hAA hZ e_124 rfl (mvX1_truth l x (xs (Int32.toNatClampNeg (x4 + (1 : Int32)))) V _ h) (cwV 1 S.2.2.2.2 (lw_V q1110 q1111 q1112 q139 q1113) rfl rfl rfl cdX1_truth ⟨Nat.le_of_ble_eq_true rfl, Nat.le_of_ble_eq_true rfl⟩) rfl hl.1 (Nat.le_of_ble_eq_true rfl) dL_law_703 hk) hS hAA (fun r_121 V_122 H1 locs h hV1 hz hkq hS => ?_)
                                    replace hP := mo_kept hAd hP (fun q hq => hkq q (mo_lt hP hq) (hAm q hq))
                                    replace hZ : ∀ q : Nat, H1.size ≤ q → A q := fun q hq => hZ q (Nat.le_trans hz hq)
                                    clear hV hkq hz
                                    have hV := hV1
                                    refine lv_aload_n hx hb dL_law_706 rfl (lv_at hl 2 rfl) ?_
                                    refine lv_aload_n hx hb dL_law_707 rfl (lv_at hl 0 rfl) ?_
                                    refine lv_iload hx hb dL_law_708 (lv_at hl 4 rfl) ?_
                                    refine lv_iconst hx hb dL_law_710 kc_1 ?_
                                    refine lv_iadd hx hb dL_law_711 ?_
                                    obtain ⟨hi, h⟩ := h
                                    refine va_sld hx hb hX hbl hbA hS hi dL_law_712 ?_
                                    refine mA_i (As := [.int (xs (Int32.toNatClampNeg (x4 + (1 : Int32))))]) (rest := [.int r_121]) S hK.1 hP hS hF (mt4_truth l hAd (xs (Int32.toNatClampNeg (x4 + (1 : Int32)))) M _ h) (cwV 1 S.2.2.2.2 (lw_V q1853 q1854 q1855 q145 q1856) rfl rfl rfl cdX4_truth ⟨Nat.le_of_ble_eq_true rfl, Nat.le_of_ble_eq_true rfl⟩) rfl rfl hl.1 (Nat.le_of_ble_eq_true rfl) dL_law_713 hk (fun r_125 M_126 H1 locs h hP1 hz hkq hS => ?_)
                                    replace hV := hV.kept (fun b9 x9 hb9 => hkq b9 (hV.lt hb9) (fun hm => hAm b9 hm (hV.inA hb9)))
                                    replace hZ : ∀ q : Nat, H1.size ≤ q → A q := fun q hq => hZ q (Nat.le_trans hz hq)
                                    clear hP hkq hz
                                    have hP := hP1
                                    refine lv_icmp_eq (tgt := 1243) hx hb dL_law_716 (by decide) (fun c_127 => ?_) (fun c_127 => ?_)
                                    · replace h := h.1 c_127
                                      exact C1243 _ ih _ _ _ _ _ _ _ _ hV hP hZ hS hk (lv_sub hl [0, 1, 2, 3, 4] rfl) h
                                    · replace h := h.2 c_127
                                      refine lv_iconst hx hb dL_law_719 kc_0 ?_
                                      exact h.elim
                                  · replace h := h.2 c_120
                                    by_cases c_128 : v_2 = 14
                                    · replace h := h.1 c_128
                                      refine lv_tableIn (tgt := 721) hx hb dL_law_40 (by rw [c_128]; decide) (by rw [c_128]; decide) (by rw [c_128]; rfl) (by decide) ?_
                                      refine lv_aload_n hx hb dL_law_721 rfl (lv_at hl 1 rfl) ?_
                                      refine lv_aload_n hx hb dL_law_722 rfl (lv_at hl 0 rfl) ?_
                                      refine lv_iload hx hb dL_law_723 (lv_at hl 4 rfl) ?_
                                      refine lv_iconst hx hb dL_law_725 kc_1 ?_
                                      refine lv_iadd hx hb dL_law_726 ?_
                                      obtain ⟨hi, h⟩ := h
                                      refine va_sld hx hb hX hbl hbA hS hi dL_law_727 ?_
                                      refine lv_aload_n hx hb dL_law_728 rfl (lv_at hl 0 rfl) ?_
                                      refine lv_iload hx hb dL_law_729 (lv_at hl 4 rfl) ?_
                                      refine lv_iconst hx hb dL_law_731 kc_2 ?_
                                      refine lv_iadd hx hb dL_law_732 ?_
                                      obtain ⟨hi, h⟩ := h
                                      refine va_sld hx hb hX hbl hbA hS hi dL_law_733 ?_
                                      obtain ⟨o_131, e_132, h⟩ := bO_e h
                                      refine lk_i (lr_V (As := [.int (xs (Int32.toNatClampNeg (x4 + (1 : Int32)))), .int (xs (Int32.toNatClampNeg (x4 + (2 : Int32))))]) (rest := []) S hK hG hV hS hAA hZ e_132 rfl (mvX1_begin l x (xs (Int32.toNatClampNeg (x4 + (1 : Int32)))) (xs (Int32.toNatClampNeg (x4 + (2 : Int32)))) V _ h) (cwV 2 S.2.2.2.2 (lw_V q1114 q1115 q1116 q139 q1117) rfl rfl rfl cdX1_begin ⟨Nat.le_of_ble_eq_true rfl, Nat.le_of_ble_eq_true rfl⟩) rfl hl.1 (Nat.le_of_ble_eq_true rfl) dL_law_734 hk) hS hAA (fun r_129 V_130 H1 locs h hV1 hz hkq hS => ?_)
                                      replace hP := mo_kept hAd hP (fun q hq => hkq q (mo_lt hP hq) (hAm q hq))
                                      replace hZ : ∀ q : Nat, H1.size ≤ q → A q := fun q hq => hZ q (Nat.le_trans hz hq)
                                      clear hV hkq hz
                                      have hV := hV1
                                      refine lv_aload_n hx hb dL_law_737 rfl (lv_at hl 2 rfl) ?_
                                      refine lv_aload_n hx hb dL_law_738 rfl (lv_at hl 0 rfl) ?_
                                      refine lv_iload hx hb dL_law_739 (lv_at hl 4 rfl) ?_
                                      refine lv_iconst hx hb dL_law_741 kc_1 ?_
                                      refine lv_iadd hx hb dL_law_742 ?_
                                      obtain ⟨hi, h⟩ := h
                                      refine va_sld hx hb hX hbl hbA hS hi dL_law_743 ?_
                                      refine lv_aload_n hx hb dL_law_744 rfl (lv_at hl 0 rfl) ?_
                                      refine lv_iload hx hb dL_law_745 (lv_at hl 4 rfl) ?_
                                      refine lv_iconst hx hb dL_law_747 kc_2 ?_
                                      refine lv_iadd hx hb dL_law_748 ?_
                                      obtain ⟨hi, h⟩ := h
                                      refine va_sld hx hb hX hbl hbA hS hi dL_law_749 ?_
                                      refine mA_i (As := [.int (xs (Int32.toNatClampNeg (x4 + (1 : Int32)))), .int (xs (Int32.toNatClampNeg (x4 + (2 : Int32))))]) (rest := [.int r_129]) S hK.1 hP hS hF (mt4_begin l hAd (xs (Int32.toNatClampNeg (x4 + (1 : Int32)))) (xs (Int32.toNatClampNeg (x4 + (2 : Int32)))) M _ h) (cwV 2 S.2.2.2.2 (lw_V q1857 q1858 q1859 q145 q1860) rfl rfl rfl cdX4_begin ⟨Nat.le_of_ble_eq_true rfl, Nat.le_of_ble_eq_true rfl⟩) rfl rfl hl.1 (Nat.le_of_ble_eq_true rfl) dL_law_750 hk (fun r_133 M_134 H1 locs h hP1 hz hkq hS => ?_)
                                      replace hV := hV.kept (fun b9 x9 hb9 => hkq b9 (hV.lt hb9) (fun hm => hAm b9 hm (hV.inA hb9)))
                                      replace hZ : ∀ q : Nat, H1.size ≤ q → A q := fun q hq => hZ q (Nat.le_trans hz hq)
                                      clear hP hkq hz
                                      have hP := hP1
                                      refine lv_icmp_eq (tgt := 1243) hx hb dL_law_753 (by decide) (fun c_135 => ?_) (fun c_135 => ?_)
                                      · replace h := h.1 c_135
                                        exact C1243 _ ih _ _ _ _ _ _ _ _ hV hP hZ hS hk (lv_sub hl [0, 1, 2, 3, 4] rfl) h
                                      · replace h := h.2 c_135
                                        refine lv_iconst hx hb dL_law_756 kc_0 ?_
                                        exact h.elim
                                    · replace h := h.2 c_128
                                      by_cases c_136 : v_2 = 15
                                      · replace h := h.1 c_136
                                        refine lv_tableIn (tgt := 758) hx hb dL_law_40 (by rw [c_136]; decide) (by rw [c_136]; decide) (by rw [c_136]; rfl) (by decide) ?_
                                        refine lv_aload_n hx hb dL_law_758 rfl (lv_at hl 1 rfl) ?_
                                        refine lv_aload_n hx hb dL_law_759 rfl (lv_at hl 0 rfl) ?_
                                        refine lv_iload hx hb dL_law_760 (lv_at hl 4 rfl) ?_
                                        refine lv_iconst hx hb dL_law_762 kc_1 ?_
                                        refine lv_iadd hx hb dL_law_763 ?_
                                        obtain ⟨hi, h⟩ := h
                                        refine va_sld hx hb hX hbl hbA hS hi dL_law_764 ?_
                                        refine lv_aload_n hx hb dL_law_765 rfl (lv_at hl 0 rfl) ?_
                                        refine lv_iload hx hb dL_law_766 (lv_at hl 4 rfl) ?_
                                        refine lv_iconst hx hb dL_law_768 kc_2 ?_
                                        refine lv_iadd hx hb dL_law_769 ?_
                                        obtain ⟨hi, h⟩ := h
                                        refine va_sld hx hb hX hbl hbA hS hi dL_law_770 ?_
                                        refine lv_aload_n hx hb dL_law_771 rfl (lv_at hl 0 rfl) ?_
                                        refine lv_iload hx hb dL_law_772 (lv_at hl 4 rfl) ?_
                                        refine lv_iconst hx hb dL_law_774 kc_3 ?_
                                        refine lv_iadd hx hb dL_law_775 ?_
                                        obtain ⟨hi, h⟩ := h
                                        refine va_sld hx hb hX hbl hbA hS hi dL_law_776 ?_
                                        obtain ⟨o_139, e_140, h⟩ := bO_e h
                                        refine lk_l (lr_V (As := [.int (xs (Int32.toNatClampNeg (x4 + (1 : Int32)))), .int (xs (Int32.toNatClampNeg (x4 + (2 : Int32)))), .int (xs (Int32.toNatClampNeg (x4 + (3 : Int32))))]) (rest := []) S hK hG hV hS hAA hZ e_140 rfl (mvX1_odds l x (xs (Int32.toNatClampNeg (x4 + (1 : Int32)))) (xs (Int32.toNatClampNeg (x4 + (2 : Int32)))) (xs (Int32.toNatClampNeg (x4 + (3 : Int32)))) V _ h) (cwV 3 S.2.2.2.2 (lw_V q1118 q1119 q1120 q139 q1121) rfl rfl rfl cdX1_odds ⟨Nat.le_of_ble_eq_true rfl, Nat.le_of_ble_eq_true rfl⟩) rfl hl.1 (Nat.le_of_ble_eq_true rfl) dL_law_777 hk) hS hAA (fun r_137 V_138 H1 locs h hV1 hz hkq hS => ?_)
                                        replace hP := mo_kept hAd hP (fun q hq => hkq q (mo_lt hP hq) (hAm q hq))
                                        replace hZ : ∀ q : Nat, H1.size ≤ q → A q := fun q hq => hZ q (Nat.le_trans hz hq)
                                        clear hV hkq hz
                                        have hV := hV1
                                        refine lv_aload_n hx hb dL_law_780 rfl (lv_at hl 2 rfl) ?_
                                        refine lv_aload_n hx hb dL_law_781 rfl (lv_at hl 0 rfl) ?_
                                        refine lv_iload hx hb dL_law_782 (lv_at hl 4 rfl) ?_
                                        refine lv_iconst hx hb dL_law_784 kc_1 ?_
                                        refine lv_iadd hx hb dL_law_785 ?_
                                        obtain ⟨hi, h⟩ := h
                                        refine va_sld hx hb hX hbl hbA hS hi dL_law_786 ?_
                                        refine lv_aload_n hx hb dL_law_787 rfl (lv_at hl 0 rfl) ?_
                                        refine lv_iload hx hb dL_law_788 (lv_at hl 4 rfl) ?_
                                        refine lv_iconst hx hb dL_law_790 kc_2 ?_
                                        refine lv_iadd hx hb dL_law_791 ?_
                                        obtain ⟨hi, h⟩ := h
                                        refine va_sld hx hb hX hbl hbA hS hi dL_law_792 ?_
                                        refine lv_aload_n hx hb dL_law_793 rfl (lv_at hl 0 rfl) ?_
                                        refine lv_iload hx hb dL_law_794 (lv_at hl 4 rfl) ?_
                                        refine lv_iconst hx hb dL_law_796 kc_3 ?_
                                        refine lv_iadd hx hb dL_law_797 ?_
                                        obtain ⟨hi, h⟩ := h
                                        refine va_sld hx hb hX hbl hbA hS hi dL_law_798 ?_
                                        refine mA_l (As := [.int (xs (Int32.toNatClampNeg (x4 + (1 : Int32)))), .int (xs (Int32.toNatClampNeg (x4 + (2 : Int32)))), .int (xs (Int32.toNatClampNeg (x4 + (3 : Int32))))]) (rest := [.long r_137]) S hK.1 hP hS hF (mt4_odds l hAd (xs (Int32.toNatClampNeg (x4 + (1 : Int32)))) (xs (Int32.toNatClampNeg (x4 + (2 : Int32)))) (xs (Int32.toNatClampNeg (x4 + (3 : Int32)))) M _ h) (cwV 3 S.2.2.2.2 (lw_V q1861 q1862 q1863 q145 q1864) rfl rfl rfl cdX4_odds ⟨Nat.le_of_ble_eq_true rfl, Nat.le_of_ble_eq_true rfl⟩) rfl rfl hl.1 (Nat.le_of_ble_eq_true rfl) dL_law_799 hk (fun r_141 M_142 H1 locs h hP1 hz hkq hS => ?_)
                                        replace hV := hV.kept (fun b9 x9 hb9 => hkq b9 (hV.lt hb9) (fun hm => hAm b9 hm (hV.inA hb9)))
                                        replace hZ : ∀ q : Nat, H1.size ≤ q → A q := fun q hq => hZ q (Nat.le_trans hz hq)
                                        clear hP hkq hz
                                        have hP := hP1
                                        refine W.lcmp hx hb dL_law_802 ?_
                                        refine lv_if_eq (tgt := 1243) hx hb dL_law_803 (by decide) (fun c_143 => ?_) (fun c_143 => ?_)
                                        · replace h := h.1 ((lg_cmp_eq _ _).mp c_143)
                                          exact C1243 _ ih _ _ _ _ _ _ _ _ hV hP hZ hS hk (lv_sub hl [0, 1, 2, 3, 4] rfl) h
                                        · replace h := h.2 (fun q => c_143 ((lg_cmp_eq _ _).mpr q))
                                          refine lv_iconst hx hb dL_law_806 kc_0 ?_
                                          exact h.elim
                                      · replace h := h.2 c_136
                                        by_cases c_144 : v_2 = 16
                                        · replace h := h.1 c_144
                                          refine lv_tableIn (tgt := 808) hx hb dL_law_40 (by rw [c_144]; decide) (by rw [c_144]; decide) (by rw [c_144]; rfl) (by decide) ?_
                                          refine lv_aload_n hx hb dL_law_808 rfl (lv_at hl 1 rfl) ?_
                                          refine lv_aload_n hx hb dL_law_809 rfl (lv_at hl 0 rfl) ?_
                                          refine lv_iload hx hb dL_law_810 (lv_at hl 4 rfl) ?_
                                          refine lv_iconst hx hb dL_law_812 kc_1 ?_
                                          refine lv_iadd hx hb dL_law_813 ?_
                                          obtain ⟨hi, h⟩ := h
                                          refine va_sld hx hb hX hbl hbA hS hi dL_law_814 ?_
                                          obtain ⟨o_147, e_148, h⟩ := bO_e h
                                          refine lk_i (lr_V (As := [.int (xs (Int32.toNatClampNeg (x4 + (1 : Int32))))]) (rest := []) S hK hG hV hS hAA hZ e_148 rfl (mvX1_page l x (xs (Int32.toNatClampNeg (x4 + (1 : Int32)))) V _ h) (cwV 1 S.2.2.2.2 (lw_V q1140 q1141 q1142 q139 q1143) rfl rfl rfl cdX1_page ⟨Nat.le_of_ble_eq_true rfl, Nat.le_of_ble_eq_true rfl⟩) rfl hl.1 (Nat.le_of_ble_eq_true rfl) dL_law_815 hk) hS hAA (fun r_145 V_146 H1 locs h hV1 hz hkq hS => ?_)
                                          replace hP := mo_kept hAd hP (fun q hq => hkq q (mo_lt hP hq) (hAm q hq))
                                          replace hZ : ∀ q : Nat, H1.size ≤ q → A q := fun q hq => hZ q (Nat.le_trans hz hq)
                                          clear hV hkq hz
                                          have hV := hV1
                                          refine lv_aload_n hx hb dL_law_818 rfl (lv_at hl 2 rfl) ?_
                                          refine lv_aload_n hx hb dL_law_819 rfl (lv_at hl 0 rfl) ?_
                                          refine lv_iload hx hb dL_law_820 (lv_at hl 4 rfl) ?_
                                          refine lv_iconst hx hb dL_law_822 kc_1 ?_
                                          refine lv_iadd hx hb dL_law_823 ?_
                                          obtain ⟨hi, h⟩ := h
                                          refine va_sld hx hb hX hbl hbA hS hi dL_law_824 ?_
                                          refine mA_i (As := [.int (xs (Int32.toNatClampNeg (x4 + (1 : Int32))))]) (rest := [.int r_145]) S hK.1 hP hS hF (mt4_page l hAd (xs (Int32.toNatClampNeg (x4 + (1 : Int32)))) M _ h) (cwV 1 S.2.2.2.2 (lw_V q1882 q1883 q1884 q145 q1885) rfl rfl rfl cdX4_page ⟨Nat.le_of_ble_eq_true rfl, Nat.le_of_ble_eq_true rfl⟩) rfl rfl hl.1 (Nat.le_of_ble_eq_true rfl) dL_law_825 hk (fun r_149 M_150 H1 locs h hP1 hz hkq hS => ?_)
                                          replace hV := hV.kept (fun b9 x9 hb9 => hkq b9 (hV.lt hb9) (fun hm => hAm b9 hm (hV.inA hb9)))
                                          replace hZ : ∀ q : Nat, H1.size ≤ q → A q := fun q hq => hZ q (Nat.le_trans hz hq)
                                          clear hP hkq hz
                                          have hP := hP1
                                          refine lv_icmp_eq (tgt := 1243) hx hb dL_law_828 (by decide) (fun c_151 => ?_) (fun c_151 => ?_)
                                          · replace h := h.1 c_151
                                            exact C1243 _ ih _ _ _ _ _ _ _ _ hV hP hZ hS hk (lv_sub hl [0, 1, 2, 3, 4] rfl) h
                                          · replace h := h.2 c_151
                                            refine lv_iconst hx hb dL_law_831 kc_0 ?_
                                            exact h.elim
                                        · replace h := h.2 c_144
                                          by_cases c_152 : v_2 = 17
                                          · replace h := h.1 c_152
                                            refine lv_tableIn (tgt := 833) hx hb dL_law_40 (by rw [c_152]; decide) (by rw [c_152]; decide) (by rw [c_152]; rfl) (by decide) ?_
                                            refine lv_aload_n hx hb dL_law_833 rfl (lv_at hl 1 rfl) ?_
                                            refine lv_aload_n hx hb dL_law_834 rfl (lv_at hl 0 rfl) ?_
                                            refine lv_iload hx hb dL_law_835 (lv_at hl 4 rfl) ?_
                                            refine lv_iconst hx hb dL_law_837 kc_1 ?_
                                            refine lv_iadd hx hb dL_law_838 ?_
                                            obtain ⟨hi, h⟩ := h
                                            refine va_sld hx hb hX hbl hbA hS hi dL_law_839 ?_
                                            obtain ⟨o_155, e_156, h⟩ := bO_e h
                                            refine lk_i (lr_V (As := [.int (xs (Int32.toNatClampNeg (x4 + (1 : Int32))))]) (rest := []) S hK hG hV hS hAA hZ e_156 rfl (mvX1_left l x (xs (Int32.toNatClampNeg (x4 + (1 : Int32)))) V _ h) (cwV 1 S.2.2.2.2 (lw_V q1156 q1157 q1158 q139 q1159) rfl rfl rfl cdX1_left ⟨Nat.le_of_ble_eq_true rfl, Nat.le_of_ble_eq_true rfl⟩) rfl hl.1 (Nat.le_of_ble_eq_true rfl) dL_law_840 hk) hS hAA (fun r_153 V_154 H1 locs h hV1 hz hkq hS => ?_)
                                            replace hP := mo_kept hAd hP (fun q hq => hkq q (mo_lt hP hq) (hAm q hq))
                                            replace hZ : ∀ q : Nat, H1.size ≤ q → A q := fun q hq => hZ q (Nat.le_trans hz hq)
                                            clear hV hkq hz
                                            have hV := hV1
                                            refine lv_aload_n hx hb dL_law_843 rfl (lv_at hl 2 rfl) ?_
                                            refine lv_aload_n hx hb dL_law_844 rfl (lv_at hl 0 rfl) ?_
                                            refine lv_iload hx hb dL_law_845 (lv_at hl 4 rfl) ?_
                                            refine lv_iconst hx hb dL_law_847 kc_1 ?_
                                            refine lv_iadd hx hb dL_law_848 ?_
                                            obtain ⟨hi, h⟩ := h
                                            refine va_sld hx hb hX hbl hbA hS hi dL_law_849 ?_
                                            refine mA_i (As := [.int (xs (Int32.toNatClampNeg (x4 + (1 : Int32))))]) (rest := [.int r_153]) S hK.1 hP hS hF (mt4_left l hAd (xs (Int32.toNatClampNeg (x4 + (1 : Int32)))) M _ h) (cwV 1 S.2.2.2.2 (lw_V q1898 q1899 q1900 q145 q1901) rfl rfl rfl cdX4_left ⟨Nat.le_of_ble_eq_true rfl, Nat.le_of_ble_eq_true rfl⟩) rfl rfl hl.1 (Nat.le_of_ble_eq_true rfl) dL_law_850 hk (fun r_157 M_158 H1 locs h hP1 hz hkq hS => ?_)
                                            replace hV := hV.kept (fun b9 x9 hb9 => hkq b9 (hV.lt hb9) (fun hm => hAm b9 hm (hV.inA hb9)))
                                            replace hZ : ∀ q : Nat, H1.size ≤ q → A q := fun q hq => hZ q (Nat.le_trans hz hq)
                                            clear hP hkq hz
                                            have hP := hP1
                                            refine lv_icmp_eq (tgt := 1243) hx hb dL_law_853 (by decide) (fun c_159 => ?_) (fun c_159 => ?_)
                                            · replace h := h.1 c_159
                                              exact C1243 _ ih _ _ _ _ _ _ _ _ hV hP hZ hS hk (lv_sub hl [0, 1, 2, 3, 4] rfl) h
                                            · replace h := h.2 c_159
                                              refine lv_iconst hx hb dL_law_856 kc_0 ?_
                                              exact h.elim
                                          · replace h := h.2 c_152
                                            by_cases c_160 : v_2 = 18
                                            · replace h := h.1 c_160
                                              refine lv_tableIn (tgt := 858) hx hb dL_law_40 (by rw [c_160]; decide) (by rw [c_160]; decide) (by rw [c_160]; rfl) (by decide) ?_
                                              refine lv_aload_n hx hb dL_law_858 rfl (lv_at hl 1 rfl) ?_
                                              refine lv_aload_n hx hb dL_law_859 rfl (lv_at hl 0 rfl) ?_
                                              refine lv_iload hx hb dL_law_860 (lv_at hl 4 rfl) ?_
                                              refine lv_iconst hx hb dL_law_862 kc_1 ?_
                                              refine lv_iadd hx hb dL_law_863 ?_
                                              obtain ⟨hi, h⟩ := h
                                              refine va_sld hx hb hX hbl hbA hS hi dL_law_864 ?_
                                              obtain ⟨o_163, e_164, h⟩ := bO_e h
                                              refine lk_i (lr_V (As := [.int (xs (Int32.toNatClampNeg (x4 + (1 : Int32))))]) (rest := []) S hK hG hV hS hAA hZ e_164 rfl (mvX1_moved l x (xs (Int32.toNatClampNeg (x4 + (1 : Int32)))) V _ h) (cwV 1 S.2.2.2.2 (lw_V q1164 q1165 q1166 q139 q1167) rfl rfl rfl cdX1_moved ⟨Nat.le_of_ble_eq_true rfl, Nat.le_of_ble_eq_true rfl⟩) rfl hl.1 (Nat.le_of_ble_eq_true rfl) dL_law_865 hk) hS hAA (fun r_161 V_162 H1 locs h hV1 hz hkq hS => ?_)
                                              replace hP := mo_kept hAd hP (fun q hq => hkq q (mo_lt hP hq) (hAm q hq))
                                              replace hZ : ∀ q : Nat, H1.size ≤ q → A q := fun q hq => hZ q (Nat.le_trans hz hq)
                                              clear hV hkq hz
                                              have hV := hV1
                                              refine lv_aload_n hx hb dL_law_868 rfl (lv_at hl 2 rfl) ?_
                                              refine lv_aload_n hx hb dL_law_869 rfl (lv_at hl 0 rfl) ?_
                                              refine lv_iload hx hb dL_law_870 (lv_at hl 4 rfl) ?_
                                              refine lv_iconst hx hb dL_law_872 kc_1 ?_
                                              refine lv_iadd hx hb dL_law_873 ?_
                                              obtain ⟨hi, h⟩ := h
                                              refine va_sld hx hb hX hbl hbA hS hi dL_law_874 ?_
                                              refine mA_i (As := [.int (xs (Int32.toNatClampNeg (x4 + (1 : Int32))))]) (rest := [.int r_161]) S hK.1 hP hS hF (mt4_moved l hAd (xs (Int32.toNatClampNeg (x4 + (1 : Int32)))) M _ h) (cwV 1 S.2.2.2.2 (lw_V q1906 q1907 q1908 q145 q1909) rfl rfl rfl cdX4_moved ⟨Nat.le_of_ble_eq_true rfl, Nat.le_of_ble_eq_true rfl⟩) rfl rfl hl.1 (Nat.le_of_ble_eq_true rfl) dL_law_875 hk (fun r_165 M_166 H1 locs h hP1 hz hkq hS => ?_)
                                              replace hV := hV.kept (fun b9 x9 hb9 => hkq b9 (hV.lt hb9) (fun hm => hAm b9 hm (hV.inA hb9)))
                                              replace hZ : ∀ q : Nat, H1.size ≤ q → A q := fun q hq => hZ q (Nat.le_trans hz hq)
                                              clear hP hkq hz
                                              have hP := hP1
                                              refine lv_icmp_eq (tgt := 1243) hx hb dL_law_878 (by decide) (fun c_167 => ?_) (fun c_167 => ?_)
                                              · replace h := h.1 c_167
                                                exact C1243 _ ih _ _ _ _ _ _ _ _ hV hP hZ hS hk (lv_sub hl [0, 1, 2, 3, 4] rfl) h
                                              · replace h := h.2 c_167
                                                refine lv_iconst hx hb dL_law_881 kc_0 ?_
                                                exact h.elim
                                            · replace h := h.2 c_160
                                              by_cases c_168 : v_2 = 19
                                              · replace h := h.1 c_168
                                                refine lv_tableIn (tgt := 883) hx hb dL_law_40 (by rw [c_168]; decide) (by rw [c_168]; decide) (by rw [c_168]; rfl) (by decide) ?_
                                                refine lv_aload_n hx hb dL_law_883 rfl (lv_at hl 1 rfl) ?_
                                                refine lv_aload_n hx hb dL_law_884 rfl (lv_at hl 0 rfl) ?_
                                                refine lv_iload hx hb dL_law_885 (lv_at hl 4 rfl) ?_
                                                refine lv_iconst hx hb dL_law_887 kc_1 ?_
                                                refine lv_iadd hx hb dL_law_888 ?_
                                                obtain ⟨hi, h⟩ := h
                                                refine va_sld hx hb hX hbl hbA hS hi dL_law_889 ?_
                                                refine lv_aload_n hx hb dL_law_890 rfl (lv_at hl 0 rfl) ?_
                                                refine lv_iload hx hb dL_law_891 (lv_at hl 4 rfl) ?_
                                                refine lv_iconst hx hb dL_law_893 kc_2 ?_
                                                refine lv_iadd hx hb dL_law_894 ?_
                                                obtain ⟨hi, h⟩ := h
                                                refine va_sld hx hb hX hbl hbA hS hi dL_law_895 ?_
                                                obtain ⟨o_171, e_172, h⟩ := bO_e h
                                                refine lk_i (lr_V (As := [.int (xs (Int32.toNatClampNeg (x4 + (1 : Int32)))), .int (xs (Int32.toNatClampNeg (x4 + (2 : Int32))))]) (rest := []) S hK hG hV hS hAA hZ e_172 rfl (mvX1_story l x (xs (Int32.toNatClampNeg (x4 + (1 : Int32)))) (xs (Int32.toNatClampNeg (x4 + (2 : Int32)))) V _ h) (cwV 2 S.2.2.2.2 (lw_V q1169 q1170 q1171 q139 q1172) rfl rfl rfl cdX1_story ⟨Nat.le_of_ble_eq_true rfl, Nat.le_of_ble_eq_true rfl⟩) rfl hl.1 (Nat.le_of_ble_eq_true rfl) dL_law_896 hk) hS hAA (fun r_169 V_170 H1 locs h hV1 hz hkq hS => ?_)
                                                replace hP := mo_kept hAd hP (fun q hq => hkq q (mo_lt hP hq) (hAm q hq))
                                                replace hZ : ∀ q : Nat, H1.size ≤ q → A q := fun q hq => hZ q (Nat.le_trans hz hq)
                                                clear hV hkq hz
                                                have hV := hV1
                                                refine lv_aload_n hx hb dL_law_899 rfl (lv_at hl 2 rfl) ?_
                                                refine lv_aload_n hx hb dL_law_900 rfl (lv_at hl 0 rfl) ?_
                                                refine lv_iload hx hb dL_law_901 (lv_at hl 4 rfl) ?_
                                                refine lv_iconst hx hb dL_law_903 kc_1 ?_
                                                refine lv_iadd hx hb dL_law_904 ?_
                                                obtain ⟨hi, h⟩ := h
                                                refine va_sld hx hb hX hbl hbA hS hi dL_law_905 ?_
                                                refine lv_aload_n hx hb dL_law_906 rfl (lv_at hl 0 rfl) ?_
                                                refine lv_iload hx hb dL_law_907 (lv_at hl 4 rfl) ?_
                                                refine lv_iconst hx hb dL_law_909 kc_2 ?_
                                                refine lv_iadd hx hb dL_law_910 ?_
                                                obtain ⟨hi, h⟩ := h
                                                refine va_sld hx hb hX hbl hbA hS hi dL_law_911 ?_
                                                refine mA_i (As := [.int (xs (Int32.toNatClampNeg (x4 + (1 : Int32)))), .int (xs (Int32.toNatClampNeg (x4 + (2 : Int32))))]) (rest := [.int r_169]) S hK.1 hP hS hF (mt4_story l hAd (xs (Int32.toNatClampNeg (x4 + (1 : Int32)))) (xs (Int32.toNatClampNeg (x4 + (2 : Int32)))) M _ h) (cwV 2 S.2.2.2.2 (lw_V q1910 q1911 q1912 q145 q1913) rfl rfl rfl cdX4_story ⟨Nat.le_of_ble_eq_true rfl, Nat.le_of_ble_eq_true rfl⟩) rfl rfl hl.1 (Nat.le_of_ble_eq_true rfl) dL_law_912 hk (fun r_173 M_174 H1 locs h hP1 hz hkq hS => ?_)
                                                replace hV := hV.kept (fun b9 x9 hb9 => hkq b9 (hV.lt hb9) (fun hm => hAm b9 hm (hV.inA hb9)))
                                                replace hZ : ∀ q : Nat, H1.size ≤ q → A q := fun q hq => hZ q (Nat.le_trans hz hq)
                                                clear hP hkq hz
                                                have hP := hP1
                                                refine lv_icmp_eq (tgt := 1243) hx hb dL_law_915 (by decide) (fun c_175 => ?_) (fun c_175 => ?_)
                                                · replace h := h.1 c_175
                                                  exact C1243 _ ih _ _ _ _ _ _ _ _ hV hP hZ hS hk (lv_sub hl [0, 1, 2, 3, 4] rfl) h
                                                · replace h := h.2 c_175
                                                  refine lv_iconst hx hb dL_law_918 kc_0 ?_
                                                  exact h.elim
                                              · replace h := h.2 c_168
                                                by_cases c_176 : v_2 = 20
                                                · replace h := h.1 c_176
                                                  refine lv_tableIn (tgt := 920) hx hb dL_law_40 (by rw [c_176]; decide) (by rw [c_176]; decide) (by rw [c_176]; rfl) (by decide) ?_
                                                  refine lv_aload_n hx hb dL_law_920 rfl (lv_at hl 1 rfl) ?_
                                                  refine lv_aload_n hx hb dL_law_921 rfl (lv_at hl 0 rfl) ?_
                                                  refine lv_iload hx hb dL_law_922 (lv_at hl 4 rfl) ?_
                                                  refine lv_iconst hx hb dL_law_924 kc_1 ?_
                                                  refine lv_iadd hx hb dL_law_925 ?_
                                                  obtain ⟨hi, h⟩ := h
                                                  refine va_sld hx hb hX hbl hbA hS hi dL_law_926 ?_
                                                  refine lv_aload_n hx hb dL_law_927 rfl (lv_at hl 0 rfl) ?_
                                                  refine lv_iload hx hb dL_law_928 (lv_at hl 4 rfl) ?_
                                                  refine lv_iconst hx hb dL_law_930 kc_2 ?_
                                                  refine lv_iadd hx hb dL_law_931 ?_
                                                  obtain ⟨hi, h⟩ := h
                                                  refine va_sld hx hb hX hbl hbA hS hi dL_law_932 ?_
                                                  obtain ⟨o_179, e_180, h⟩ := bO_e h
                                                  refine lk_i (lr_V (As := [.int (xs (Int32.toNatClampNeg (x4 + (1 : Int32)))), .int (xs (Int32.toNatClampNeg (x4 + (2 : Int32))))]) (rest := []) S hK hG hV hS hAA hZ e_180 rfl (mvX1_clash l x (xs (Int32.toNatClampNeg (x4 + (1 : Int32)))) (xs (Int32.toNatClampNeg (x4 + (2 : Int32)))) V _ h) (cwV 2 S.2.2.2.2 (lw_V q1177 q1178 q1179 q139 q1180) rfl rfl rfl cdX1_clash ⟨Nat.le_of_ble_eq_true rfl, Nat.le_of_ble_eq_true rfl⟩) rfl hl.1 (Nat.le_of_ble_eq_true rfl) dL_law_933 hk) hS hAA (fun r_177 V_178 H1 locs h hV1 hz hkq hS => ?_)
                                                  replace hP := mo_kept hAd hP (fun q hq => hkq q (mo_lt hP hq) (hAm q hq))
                                                  replace hZ : ∀ q : Nat, H1.size ≤ q → A q := fun q hq => hZ q (Nat.le_trans hz hq)
                                                  clear hV hkq hz
                                                  have hV := hV1
                                                  refine lv_aload_n hx hb dL_law_936 rfl (lv_at hl 2 rfl) ?_
                                                  refine lv_aload_n hx hb dL_law_937 rfl (lv_at hl 0 rfl) ?_
                                                  refine lv_iload hx hb dL_law_938 (lv_at hl 4 rfl) ?_
                                                  refine lv_iconst hx hb dL_law_940 kc_1 ?_
                                                  refine lv_iadd hx hb dL_law_941 ?_
                                                  obtain ⟨hi, h⟩ := h
                                                  refine va_sld hx hb hX hbl hbA hS hi dL_law_942 ?_
                                                  refine lv_aload_n hx hb dL_law_943 rfl (lv_at hl 0 rfl) ?_
                                                  refine lv_iload hx hb dL_law_944 (lv_at hl 4 rfl) ?_
                                                  refine lv_iconst hx hb dL_law_946 kc_2 ?_
                                                  refine lv_iadd hx hb dL_law_947 ?_
                                                  obtain ⟨hi, h⟩ := h
                                                  refine va_sld hx hb hX hbl hbA hS hi dL_law_948 ?_
                                                  refine mA_i (As := [.int (xs (Int32.toNatClampNeg (x4 + (1 : Int32)))), .int (xs (Int32.toNatClampNeg (x4 + (2 : Int32))))]) (rest := [.int r_177]) S hK.1 hP hS hF (mt4_clash l hAd (xs (Int32.toNatClampNeg (x4 + (1 : Int32)))) (xs (Int32.toNatClampNeg (x4 + (2 : Int32)))) M _ h) (cwV 2 S.2.2.2.2 (lw_V q1918 q1919 q1920 q145 q1921) rfl rfl rfl cdX4_clash ⟨Nat.le_of_ble_eq_true rfl, Nat.le_of_ble_eq_true rfl⟩) rfl rfl hl.1 (Nat.le_of_ble_eq_true rfl) dL_law_949 hk (fun r_181 M_182 H1 locs h hP1 hz hkq hS => ?_)
                                                  replace hV := hV.kept (fun b9 x9 hb9 => hkq b9 (hV.lt hb9) (fun hm => hAm b9 hm (hV.inA hb9)))
                                                  replace hZ : ∀ q : Nat, H1.size ≤ q → A q := fun q hq => hZ q (Nat.le_trans hz hq)
                                                  clear hP hkq hz
                                                  have hP := hP1
                                                  refine lv_icmp_eq (tgt := 1243) hx hb dL_law_952 (by decide) (fun c_183 => ?_) (fun c_183 => ?_)
                                                  · replace h := h.1 c_183
                                                    exact C1243 _ ih _ _ _ _ _ _ _ _ hV hP hZ hS hk (lv_sub hl [0, 1, 2, 3, 4] rfl) h
                                                  · replace h := h.2 c_183
                                                    refine lv_iconst hx hb dL_law_955 kc_0 ?_
                                                    exact h.elim
                                                · replace h := h.2 c_176
                                                  by_cases c_184 : v_2 = 21
                                                  · replace h := h.1 c_184
                                                    refine lv_tableIn (tgt := 957) hx hb dL_law_40 (by rw [c_184]; decide) (by rw [c_184]; decide) (by rw [c_184]; rfl) (by decide) ?_
                                                    refine lv_aload_n hx hb dL_law_957 rfl (lv_at hl 1 rfl) ?_
                                                    obtain ⟨o_187, e_188, h⟩ := bO_e h
                                                    refine lk_i (lr_V (As := []) (rest := []) S hK hG hV hS hAA hZ e_188 rfl (mvX1_together l x V _ h) (cwV 0 S.2.2.2.2 (lw_V q1185 q1186 q1187 q139 q1188) rfl rfl rfl cdX1_together ⟨Nat.le_of_ble_eq_true rfl, Nat.le_of_ble_eq_true rfl⟩) rfl hl.1 (Nat.le_of_ble_eq_true rfl) dL_law_958 hk) hS hAA (fun r_185 V_186 H1 locs h hV1 hz hkq hS => ?_)
                                                    replace hP := mo_kept hAd hP (fun q hq => hkq q (mo_lt hP hq) (hAm q hq))
                                                    replace hZ : ∀ q : Nat, H1.size ≤ q → A q := fun q hq => hZ q (Nat.le_trans hz hq)
                                                    clear hV hkq hz
                                                    have hV := hV1
                                                    refine lv_aload_n hx hb dL_law_961 rfl (lv_at hl 2 rfl) ?_
                                                    refine mA_i (As := []) (rest := [.int r_185]) S hK.1 hP hS hF (mt4_together l hAd M _ h) (cwV 0 S.2.2.2.2 (lw_V q1926 q1927 q1928 q145 q1929) rfl rfl rfl cdX4_together ⟨Nat.le_of_ble_eq_true rfl, Nat.le_of_ble_eq_true rfl⟩) rfl rfl hl.1 (Nat.le_of_ble_eq_true rfl) dL_law_962 hk (fun r_189 M_190 H1 locs h hP1 hz hkq hS => ?_)
                                                    replace hV := hV.kept (fun b9 x9 hb9 => hkq b9 (hV.lt hb9) (fun hm => hAm b9 hm (hV.inA hb9)))
                                                    replace hZ : ∀ q : Nat, H1.size ≤ q → A q := fun q hq => hZ q (Nat.le_trans hz hq)
                                                    clear hP hkq hz
                                                    have hP := hP1
                                                    refine lv_icmp_eq (tgt := 1243) hx hb dL_law_965 (by decide) (fun c_191 => ?_) (fun c_191 => ?_)
                                                    · replace h := h.1 c_191
                                                      exact C1243 _ ih _ _ _ _ _ _ _ _ hV hP hZ hS hk (lv_sub hl [0, 1, 2, 3, 4] rfl) h
                                                    · replace h := h.2 c_191
                                                      refine lv_iconst hx hb dL_law_968 kc_0 ?_
                                                      exact h.elim
                                                  · replace h := h.2 c_184
                                                    by_cases c_192 : v_2 = 22
                                                    · replace h := h.1 c_192
                                                      refine lv_tableIn (tgt := 970) hx hb dL_law_40 (by rw [c_192]; decide) (by rw [c_192]; decide) (by rw [c_192]; rfl) (by decide) ?_
                                                      refine lv_aload_n hx hb dL_law_970 rfl (lv_at hl 1 rfl) ?_
                                                      refine lv_aload_n hx hb dL_law_971 rfl (lv_at hl 0 rfl) ?_
                                                      refine lv_iload hx hb dL_law_972 (lv_at hl 4 rfl) ?_
                                                      refine lv_iconst hx hb dL_law_974 kc_1 ?_
                                                      refine lv_iadd hx hb dL_law_975 ?_
                                                      obtain ⟨hi, h⟩ := h
                                                      refine va_sld hx hb hX hbl hbA hS hi dL_law_976 ?_
                                                      obtain ⟨o_195, e_196, h⟩ := bO_e h
                                                      refine lk_i (lr_V (As := [.int (xs (Int32.toNatClampNeg (x4 + (1 : Int32))))]) (rest := []) S hK hG hV hS hAA hZ e_196 rfl (mvX1_lies l x (xs (Int32.toNatClampNeg (x4 + (1 : Int32)))) V _ h) (cwV 1 S.2.2.2.2 (lw_V q1195 q1196 q1197 q139 q1198) rfl rfl rfl cdX1_lies ⟨Nat.le_of_ble_eq_true rfl, Nat.le_of_ble_eq_true rfl⟩) rfl hl.1 (Nat.le_of_ble_eq_true rfl) dL_law_977 hk) hS hAA (fun r_193 V_194 H1 locs h hV1 hz hkq hS => ?_)
                                                      replace hP := mo_kept hAd hP (fun q hq => hkq q (mo_lt hP hq) (hAm q hq))
                                                      replace hZ : ∀ q : Nat, H1.size ≤ q → A q := fun q hq => hZ q (Nat.le_trans hz hq)
                                                      clear hV hkq hz
                                                      have hV := hV1
                                                      refine lv_aload_n hx hb dL_law_980 rfl (lv_at hl 2 rfl) ?_
                                                      refine lv_aload_n hx hb dL_law_981 rfl (lv_at hl 0 rfl) ?_
                                                      refine lv_iload hx hb dL_law_982 (lv_at hl 4 rfl) ?_
                                                      refine lv_iconst hx hb dL_law_984 kc_1 ?_
                                                      refine lv_iadd hx hb dL_law_985 ?_
                                                      obtain ⟨hi, h⟩ := h
                                                      refine va_sld hx hb hX hbl hbA hS hi dL_law_986 ?_
                                                      refine mA_i (As := [.int (xs (Int32.toNatClampNeg (x4 + (1 : Int32))))]) (rest := [.int r_193]) S hK.1 hP hS hF (mt4_lies l hAd (xs (Int32.toNatClampNeg (x4 + (1 : Int32)))) M _ h) (cwV 1 S.2.2.2.2 (lw_V q1936 q1937 q1938 q145 q1939) rfl rfl rfl cdX4_lies ⟨Nat.le_of_ble_eq_true rfl, Nat.le_of_ble_eq_true rfl⟩) rfl rfl hl.1 (Nat.le_of_ble_eq_true rfl) dL_law_987 hk (fun r_197 M_198 H1 locs h hP1 hz hkq hS => ?_)
                                                      replace hV := hV.kept (fun b9 x9 hb9 => hkq b9 (hV.lt hb9) (fun hm => hAm b9 hm (hV.inA hb9)))
                                                      replace hZ : ∀ q : Nat, H1.size ≤ q → A q := fun q hq => hZ q (Nat.le_trans hz hq)
                                                      clear hP hkq hz
                                                      have hP := hP1
                                                      refine lv_icmp_eq (tgt := 1243) hx hb dL_law_990 (by decide) (fun c_199 => ?_) (fun c_199 => ?_)
                                                      · replace h := h.1 c_199
                                                        exact C1243 _ ih _ _ _ _ _ _ _ _ hV hP hZ hS hk (lv_sub hl [0, 1, 2, 3, 4] rfl) h
                                                      · replace h := h.2 c_199
                                                        refine lv_iconst hx hb dL_law_993 kc_0 ?_
                                                        exact h.elim
                                                    · replace h := h.2 c_192
                                                      by_cases c_200 : v_2 = 23
                                                      · replace h := h.1 c_200
                                                        refine lv_tableIn (tgt := 995) hx hb dL_law_40 (by rw [c_200]; decide) (by rw [c_200]; decide) (by rw [c_200]; rfl) (by decide) ?_
                                                        refine lv_aload_n hx hb dL_law_995 rfl (lv_at hl 1 rfl) ?_
                                                        refine lv_aload_n hx hb dL_law_996 rfl (lv_at hl 0 rfl) ?_
                                                        refine lv_iload hx hb dL_law_997 (lv_at hl 4 rfl) ?_
                                                        refine lv_iconst hx hb dL_law_999 kc_1 ?_
                                                        refine lv_iadd hx hb dL_law_1000 ?_
                                                        obtain ⟨hi, h⟩ := h
                                                        refine va_sld hx hb hX hbl hbA hS hi dL_law_1001 ?_
                                                        obtain ⟨o_203, e_204, h⟩ := bO_e h
                                                        refine lk_i (lr_V (As := [.int (xs (Int32.toNatClampNeg (x4 + (1 : Int32))))]) (rest := []) S hK hG hV hS hAA hZ e_204 rfl (mvX1_supposed l x (xs (Int32.toNatClampNeg (x4 + (1 : Int32)))) V _ h) (cwV 1 S.2.2.2.2 (lw_V q1199 q1200 q1201 q139 q1202) rfl rfl rfl cdX1_supposed ⟨Nat.le_of_ble_eq_true rfl, Nat.le_of_ble_eq_true rfl⟩) rfl hl.1 (Nat.le_of_ble_eq_true rfl) dL_law_1002 hk) hS hAA (fun r_201 V_202 H1 locs h hV1 hz hkq hS => ?_)
                                                        replace hP := mo_kept hAd hP (fun q hq => hkq q (mo_lt hP hq) (hAm q hq))
                                                        replace hZ : ∀ q : Nat, H1.size ≤ q → A q := fun q hq => hZ q (Nat.le_trans hz hq)
                                                        clear hV hkq hz
                                                        have hV := hV1
                                                        refine lv_aload_n hx hb dL_law_1005 rfl (lv_at hl 2 rfl) ?_
                                                        refine lv_aload_n hx hb dL_law_1006 rfl (lv_at hl 0 rfl) ?_
                                                        refine lv_iload hx hb dL_law_1007 (lv_at hl 4 rfl) ?_
                                                        refine lv_iconst hx hb dL_law_1009 kc_1 ?_
                                                        refine lv_iadd hx hb dL_law_1010 ?_
                                                        obtain ⟨hi, h⟩ := h
                                                        refine va_sld hx hb hX hbl hbA hS hi dL_law_1011 ?_
                                                        refine mA_i (As := [.int (xs (Int32.toNatClampNeg (x4 + (1 : Int32))))]) (rest := [.int r_201]) S hK.1 hP hS hF (mt4_supposed l hAd (xs (Int32.toNatClampNeg (x4 + (1 : Int32)))) M _ h) (cwV 1 S.2.2.2.2 (lw_V q1944 q1945 q1946 q145 q1947) rfl rfl rfl cdX4_supposed ⟨Nat.le_of_ble_eq_true rfl, Nat.le_of_ble_eq_true rfl⟩) rfl rfl hl.1 (Nat.le_of_ble_eq_true rfl) dL_law_1012 hk (fun r_205 M_206 H1 locs h hP1 hz hkq hS => ?_)
                                                        replace hV := hV.kept (fun b9 x9 hb9 => hkq b9 (hV.lt hb9) (fun hm => hAm b9 hm (hV.inA hb9)))
                                                        replace hZ : ∀ q : Nat, H1.size ≤ q → A q := fun q hq => hZ q (Nat.le_trans hz hq)
                                                        clear hP hkq hz
                                                        have hP := hP1
                                                        refine lv_icmp_eq (tgt := 1243) hx hb dL_law_1015 (by decide) (fun c_207 => ?_) (fun c_207 => ?_)
                                                        · replace h := h.1 c_207
                                                          exact C1243 _ ih _ _ _ _ _ _ _ _ hV hP hZ hS hk (lv_sub hl [0, 1, 2, 3, 4] rfl) h
                                                        · replace h := h.2 c_207
                                                          refine lv_iconst hx hb dL_law_1018 kc_0 ?_
                                                          exact h.elim
                                                      · replace h := h.2 c_200
                                                        by_cases c_208 : v_2 = 24
                                                        · replace h := h.1 c_208
                                                          refine lv_tableIn (tgt := 1020) hx hb dL_law_40 (by rw [c_208]; decide) (by rw [c_208]; decide) (by rw [c_208]; rfl) (by decide) ?_
                                                          refine lv_aload_n hx hb dL_law_1020 rfl (lv_at hl 1 rfl) ?_
                                                          refine lv_aload_n hx hb dL_law_1021 rfl (lv_at hl 0 rfl) ?_
                                                          refine lv_iload hx hb dL_law_1022 (lv_at hl 4 rfl) ?_
                                                          refine lv_iconst hx hb dL_law_1024 kc_1 ?_
                                                          refine lv_iadd hx hb dL_law_1025 ?_
                                                          obtain ⟨hi, h⟩ := h
                                                          refine va_sld hx hb hX hbl hbA hS hi dL_law_1026 ?_
                                                          obtain ⟨o_211, e_212, h⟩ := bO_e h
                                                          refine lk_i (lr_V (As := [.int (xs (Int32.toNatClampNeg (x4 + (1 : Int32))))]) (rest := []) S hK hG hV hS hAA hZ e_212 rfl (mvX1_law l x (xs (Int32.toNatClampNeg (x4 + (1 : Int32)))) V _ h) (cwV 1 S.2.2.2.2 (lw_V q1204 q1205 q1206 q139 q1207) rfl rfl rfl cdX1_law ⟨Nat.le_of_ble_eq_true rfl, Nat.le_of_ble_eq_true rfl⟩) rfl hl.1 (Nat.le_of_ble_eq_true rfl) dL_law_1027 hk) hS hAA (fun r_209 V_210 H1 locs h hV1 hz hkq hS => ?_)
                                                          replace hP := mo_kept hAd hP (fun q hq => hkq q (mo_lt hP hq) (hAm q hq))
                                                          replace hZ : ∀ q : Nat, H1.size ≤ q → A q := fun q hq => hZ q (Nat.le_trans hz hq)
                                                          clear hV hkq hz
                                                          have hV := hV1
                                                          refine lv_aload_n hx hb dL_law_1030 rfl (lv_at hl 2 rfl) ?_
                                                          refine lv_aload_n hx hb dL_law_1031 rfl (lv_at hl 0 rfl) ?_
                                                          refine lv_iload hx hb dL_law_1032 (lv_at hl 4 rfl) ?_
                                                          refine lv_iconst hx hb dL_law_1034 kc_1 ?_
                                                          refine lv_iadd hx hb dL_law_1035 ?_
                                                          obtain ⟨hi, h⟩ := h
                                                          refine va_sld hx hb hX hbl hbA hS hi dL_law_1036 ?_
                                                          refine mA_i (As := [.int (xs (Int32.toNatClampNeg (x4 + (1 : Int32))))]) (rest := [.int r_209]) S hK.1 hP hS hF (mt4_law l hAd (xs (Int32.toNatClampNeg (x4 + (1 : Int32)))) M _ h) (cwV 1 S.2.2.2.2 (lw_V q1956 q1957 q1958 q145 q1959) rfl rfl rfl cdX4_law ⟨Nat.le_of_ble_eq_true rfl, Nat.le_of_ble_eq_true rfl⟩) rfl rfl hl.1 (Nat.le_of_ble_eq_true rfl) dL_law_1037 hk (fun r_213 M_214 H1 locs h hP1 hz hkq hS => ?_)
                                                          replace hV := hV.kept (fun b9 x9 hb9 => hkq b9 (hV.lt hb9) (fun hm => hAm b9 hm (hV.inA hb9)))
                                                          replace hZ : ∀ q : Nat, H1.size ≤ q → A q := fun q hq => hZ q (Nat.le_trans hz hq)
                                                          clear hP hkq hz
                                                          have hP := hP1
                                                          refine lv_icmp_eq (tgt := 1243) hx hb dL_law_1040 (by decide) (fun c_215 => ?_) (fun c_215 => ?_)
                                                          · replace h := h.1 c_215
                                                            exact C1243 _ ih _ _ _ _ _ _ _ _ hV hP hZ hS hk (lv_sub hl [0, 1, 2, 3, 4] rfl) h
                                                          · replace h := h.2 c_215
                                                            refine lv_iconst hx hb dL_law_1043 kc_0 ?_
                                                            exact h.elim
                                                        · replace h := h.2 c_208
                                                          by_cases c_216 : v_2 = 25
                                                          · replace h := h.1 c_216
                                                            refine lv_tableIn (tgt := 1045) hx hb dL_law_40 (by rw [c_216]; decide) (by rw [c_216]; decide) (by rw [c_216]; rfl) (by decide) ?_
                                                            refine lv_aload_n hx hb dL_law_1045 rfl (lv_at hl 1 rfl) ?_
                                                            refine lv_aload_n hx hb dL_law_1046 rfl (lv_at hl 0 rfl) ?_
                                                            refine lv_iload hx hb dL_law_1047 (lv_at hl 4 rfl) ?_
                                                            refine lv_iconst hx hb dL_law_1049 kc_1 ?_
                                                            refine lv_iadd hx hb dL_law_1050 ?_
                                                            obtain ⟨hi, h⟩ := h
                                                            refine va_sld hx hb hX hbl hbA hS hi dL_law_1051 ?_
                                                            refine lv_aload_n hx hb dL_law_1052 rfl (lv_at hl 0 rfl) ?_
                                                            refine lv_iload hx hb dL_law_1053 (lv_at hl 4 rfl) ?_
                                                            refine lv_iconst hx hb dL_law_1055 kc_2 ?_
                                                            refine lv_iadd hx hb dL_law_1056 ?_
                                                            obtain ⟨hi, h⟩ := h
                                                            refine va_sld hx hb hX hbl hbA hS hi dL_law_1057 ?_
                                                            refine lv_aload_n hx hb dL_law_1058 rfl (lv_at hl 0 rfl) ?_
                                                            refine lv_iload hx hb dL_law_1059 (lv_at hl 4 rfl) ?_
                                                            refine lv_iconst hx hb dL_law_1061 kc_3 ?_
                                                            refine lv_iadd hx hb dL_law_1062 ?_
                                                            obtain ⟨hi, h⟩ := h
                                                            refine va_sld hx hb hX hbl hbA hS hi dL_law_1063 ?_
                                                            obtain ⟨o_219, e_220, h⟩ := bO_e h
                                                            refine lk_i (lr_V (As := [.int (xs (Int32.toNatClampNeg (x4 + (1 : Int32)))), .int (xs (Int32.toNatClampNeg (x4 + (2 : Int32)))), .int (xs (Int32.toNatClampNeg (x4 + (3 : Int32))))]) (rest := []) S hK hG hV hS hAA hZ e_220 rfl (mvX1_draws l x (xs (Int32.toNatClampNeg (x4 + (1 : Int32)))) (xs (Int32.toNatClampNeg (x4 + (2 : Int32)))) (xs (Int32.toNatClampNeg (x4 + (3 : Int32)))) V _ h) (cwV 3 S.2.2.2.2 (lw_V q1269 q1270 q1271 q139 q1272) rfl rfl rfl cdX1_draws ⟨Nat.le_of_ble_eq_true rfl, Nat.le_of_ble_eq_true rfl⟩) rfl hl.1 (Nat.le_of_ble_eq_true rfl) dL_law_1064 hk) hS hAA (fun r_217 V_218 H1 locs h hV1 hz hkq hS => ?_)
                                                            replace hP := mo_kept hAd hP (fun q hq => hkq q (mo_lt hP hq) (hAm q hq))
                                                            replace hZ : ∀ q : Nat, H1.size ≤ q → A q := fun q hq => hZ q (Nat.le_trans hz hq)
                                                            clear hV hkq hz
                                                            have hV := hV1
                                                            refine lv_aload_n hx hb dL_law_1067 rfl (lv_at hl 2 rfl) ?_
                                                            refine lv_aload_n hx hb dL_law_1068 rfl (lv_at hl 0 rfl) ?_
                                                            refine lv_iload hx hb dL_law_1069 (lv_at hl 4 rfl) ?_
                                                            refine lv_iconst hx hb dL_law_1071 kc_1 ?_
                                                            refine lv_iadd hx hb dL_law_1072 ?_
                                                            obtain ⟨hi, h⟩ := h
                                                            refine va_sld hx hb hX hbl hbA hS hi dL_law_1073 ?_
                                                            refine lv_aload_n hx hb dL_law_1074 rfl (lv_at hl 0 rfl) ?_
                                                            refine lv_iload hx hb dL_law_1075 (lv_at hl 4 rfl) ?_
                                                            refine lv_iconst hx hb dL_law_1077 kc_2 ?_
                                                            refine lv_iadd hx hb dL_law_1078 ?_
                                                            obtain ⟨hi, h⟩ := h
                                                            refine va_sld hx hb hX hbl hbA hS hi dL_law_1079 ?_
                                                            refine lv_aload_n hx hb dL_law_1080 rfl (lv_at hl 0 rfl) ?_
                                                            refine lv_iload hx hb dL_law_1081 (lv_at hl 4 rfl) ?_
                                                            refine lv_iconst hx hb dL_law_1083 kc_3 ?_
                                                            refine lv_iadd hx hb dL_law_1084 ?_
                                                            obtain ⟨hi, h⟩ := h
                                                            refine va_sld hx hb hX hbl hbA hS hi dL_law_1085 ?_
                                                            refine mA_i (As := [.int (xs (Int32.toNatClampNeg (x4 + (1 : Int32)))), .int (xs (Int32.toNatClampNeg (x4 + (2 : Int32)))), .int (xs (Int32.toNatClampNeg (x4 + (3 : Int32))))]) (rest := [.int r_217]) S hK.1 hP hS hF (mt4_draws l hAd (xs (Int32.toNatClampNeg (x4 + (1 : Int32)))) (xs (Int32.toNatClampNeg (x4 + (2 : Int32)))) (xs (Int32.toNatClampNeg (x4 + (3 : Int32)))) M _ h) (cwV 3 S.2.2.2.2 (lw_V q1998 q1999 q2000 q145 q2001) rfl rfl rfl cdX4_draws ⟨Nat.le_of_ble_eq_true rfl, Nat.le_of_ble_eq_true rfl⟩) rfl rfl hl.1 (Nat.le_of_ble_eq_true rfl) dL_law_1086 hk (fun r_221 M_222 H1 locs h hP1 hz hkq hS => ?_)
                                                            replace hV := hV.kept (fun b9 x9 hb9 => hkq b9 (hV.lt hb9) (fun hm => hAm b9 hm (hV.inA hb9)))
                                                            replace hZ : ∀ q : Nat, H1.size ≤ q → A q := fun q hq => hZ q (Nat.le_trans hz hq)
                                                            clear hP hkq hz
                                                            have hP := hP1
                                                            refine lv_icmp_eq (tgt := 1243) hx hb dL_law_1089 (by decide) (fun c_223 => ?_) (fun c_223 => ?_)
                                                            · replace h := h.1 c_223
                                                              exact C1243 _ ih _ _ _ _ _ _ _ _ hV hP hZ hS hk (lv_sub hl [0, 1, 2, 3, 4] rfl) h
                                                            · replace h := h.2 c_223
                                                              refine lv_iconst hx hb dL_law_1092 kc_0 ?_
                                                              exact h.elim
                                                          · replace h := h.2 c_216
                                                            by_cases c_224 : v_2 = 26
                                                            · replace h := h.1 c_224
                                                              refine lv_tableIn (tgt := 1094) hx hb dL_law_40 (by rw [c_224]; decide) (by rw [c_224]; decide) (by rw [c_224]; rfl) (by decide) ?_
                                                              refine lv_aload_n hx hb dL_law_1094 rfl (lv_at hl 1 rfl) ?_
                                                              refine lv_aload_n hx hb dL_law_1095 rfl (lv_at hl 0 rfl) ?_
                                                              refine lv_iload hx hb dL_law_1096 (lv_at hl 4 rfl) ?_
                                                              refine lv_iconst hx hb dL_law_1098 kc_1 ?_
                                                              refine lv_iadd hx hb dL_law_1099 ?_
                                                              obtain ⟨hi, h⟩ := h
                                                              refine va_sld hx hb hX hbl hbA hS hi dL_law_1100 ?_
                                                              obtain ⟨o_227, e_228, h⟩ := bO_e h
                                                              refine lk_i (lr_V (As := [.int (xs (Int32.toNatClampNeg (x4 + (1 : Int32))))]) (rest := []) S hK hG hV hS hAA hZ e_228 rfl (mvX1_barred l x (xs (Int32.toNatClampNeg (x4 + (1 : Int32)))) V _ h) (cwV 1 S.2.2.2.2 (lw_V q1283 q1284 q1285 q139 q1286) rfl rfl rfl cdX1_barred ⟨Nat.le_of_ble_eq_true rfl, Nat.le_of_ble_eq_true rfl⟩) rfl hl.1 (Nat.le_of_ble_eq_true rfl) dL_law_1101 hk) hS hAA (fun r_225 V_226 H1 locs h hV1 hz hkq hS => ?_)
                                                              replace hP := mo_kept hAd hP (fun q hq => hkq q (mo_lt hP hq) (hAm q hq))
                                                              replace hZ : ∀ q : Nat, H1.size ≤ q → A q := fun q hq => hZ q (Nat.le_trans hz hq)
                                                              clear hV hkq hz
                                                              have hV := hV1
                                                              refine lv_aload_n hx hb dL_law_1104 rfl (lv_at hl 2 rfl) ?_
                                                              refine lv_aload_n hx hb dL_law_1105 rfl (lv_at hl 0 rfl) ?_
                                                              refine lv_iload hx hb dL_law_1106 (lv_at hl 4 rfl) ?_
                                                              refine lv_iconst hx hb dL_law_1108 kc_1 ?_
                                                              refine lv_iadd hx hb dL_law_1109 ?_
                                                              obtain ⟨hi, h⟩ := h
                                                              refine va_sld hx hb hX hbl hbA hS hi dL_law_1110 ?_
                                                              refine mA_i (As := [.int (xs (Int32.toNatClampNeg (x4 + (1 : Int32))))]) (rest := [.int r_225]) S hK.1 hP hS hF (mt4_barred l hAd (xs (Int32.toNatClampNeg (x4 + (1 : Int32)))) M _ h) (cwV 1 S.2.2.2.2 (lw_V q2018 q2019 q2020 q145 q2021) rfl rfl rfl cdX4_barred ⟨Nat.le_of_ble_eq_true rfl, Nat.le_of_ble_eq_true rfl⟩) rfl rfl hl.1 (Nat.le_of_ble_eq_true rfl) dL_law_1111 hk (fun r_229 M_230 H1 locs h hP1 hz hkq hS => ?_)
                                                              replace hV := hV.kept (fun b9 x9 hb9 => hkq b9 (hV.lt hb9) (fun hm => hAm b9 hm (hV.inA hb9)))
                                                              replace hZ : ∀ q : Nat, H1.size ≤ q → A q := fun q hq => hZ q (Nat.le_trans hz hq)
                                                              clear hP hkq hz
                                                              have hP := hP1
                                                              refine lv_icmp_eq (tgt := 1243) hx hb dL_law_1114 (by decide) (fun c_231 => ?_) (fun c_231 => ?_)
                                                              · replace h := h.1 c_231
                                                                exact C1243 _ ih _ _ _ _ _ _ _ _ hV hP hZ hS hk (lv_sub hl [0, 1, 2, 3, 4] rfl) h
                                                              · replace h := h.2 c_231
                                                                refine lv_iconst hx hb dL_law_1117 kc_0 ?_
                                                                exact h.elim
                                                            · replace h := h.2 c_224
                                                              by_cases c_232 : v_2 = 27
                                                              · replace h := h.1 c_232
                                                                refine lv_tableIn (tgt := 1119) hx hb dL_law_40 (by rw [c_232]; decide) (by rw [c_232]; decide) (by rw [c_232]; rfl) (by decide) ?_
                                                                refine lv_aload_n hx hb dL_law_1119 rfl (lv_at hl 1 rfl) ?_
                                                                refine lv_aload_n hx hb dL_law_1120 rfl (lv_at hl 0 rfl) ?_
                                                                refine lv_iload hx hb dL_law_1121 (lv_at hl 4 rfl) ?_
                                                                refine lv_iconst hx hb dL_law_1123 kc_1 ?_
                                                                refine lv_iadd hx hb dL_law_1124 ?_
                                                                obtain ⟨hi, h⟩ := h
                                                                refine va_sld hx hb hX hbl hbA hS hi dL_law_1125 ?_
                                                                refine lv_aload_n hx hb dL_law_1126 rfl (lv_at hl 0 rfl) ?_
                                                                refine lv_iload hx hb dL_law_1127 (lv_at hl 4 rfl) ?_
                                                                refine lv_iconst hx hb dL_law_1129 kc_2 ?_
                                                                refine lv_iadd hx hb dL_law_1130 ?_
                                                                obtain ⟨hi, h⟩ := h
                                                                refine va_sld hx hb hX hbl hbA hS hi dL_law_1131 ?_
                                                                obtain ⟨o_235, e_236, h⟩ := bO_e h
                                                                refine lk_i (lr_V (As := [.int (xs (Int32.toNatClampNeg (x4 + (1 : Int32)))), .int (xs (Int32.toNatClampNeg (x4 + (2 : Int32))))]) (rest := []) S hK hG hV hS hAA hZ e_236 rfl (mvX1_jury l x (xs (Int32.toNatClampNeg (x4 + (1 : Int32)))) (xs (Int32.toNatClampNeg (x4 + (2 : Int32)))) V _ h) (cwV 2 S.2.2.2.2 (lw_V q1303 q1304 q1305 q139 q1306) rfl rfl rfl cdX1_jury ⟨Nat.le_of_ble_eq_true rfl, Nat.le_of_ble_eq_true rfl⟩) rfl hl.1 (Nat.le_of_ble_eq_true rfl) dL_law_1132 hk) hS hAA (fun r_233 V_234 H1 locs h hV1 hz hkq hS => ?_)
                                                                replace hP := mo_kept hAd hP (fun q hq => hkq q (mo_lt hP hq) (hAm q hq))
                                                                replace hZ : ∀ q : Nat, H1.size ≤ q → A q := fun q hq => hZ q (Nat.le_trans hz hq)
                                                                clear hV hkq hz
                                                                have hV := hV1
                                                                refine lv_aload_n hx hb dL_law_1135 rfl (lv_at hl 2 rfl) ?_
                                                                refine lv_aload_n hx hb dL_law_1136 rfl (lv_at hl 0 rfl) ?_
                                                                refine lv_iload hx hb dL_law_1137 (lv_at hl 4 rfl) ?_
                                                                refine lv_iconst hx hb dL_law_1139 kc_1 ?_
                                                                refine lv_iadd hx hb dL_law_1140 ?_
                                                                obtain ⟨hi, h⟩ := h
                                                                refine va_sld hx hb hX hbl hbA hS hi dL_law_1141 ?_
                                                                refine lv_aload_n hx hb dL_law_1142 rfl (lv_at hl 0 rfl) ?_
                                                                refine lv_iload hx hb dL_law_1143 (lv_at hl 4 rfl) ?_
                                                                refine lv_iconst hx hb dL_law_1145 kc_2 ?_
                                                                refine lv_iadd hx hb dL_law_1146 ?_
                                                                obtain ⟨hi, h⟩ := h
                                                                refine va_sld hx hb hX hbl hbA hS hi dL_law_1147 ?_
                                                                refine mA_i (As := [.int (xs (Int32.toNatClampNeg (x4 + (1 : Int32)))), .int (xs (Int32.toNatClampNeg (x4 + (2 : Int32))))]) (rest := [.int r_233]) S hK.1 hP hS hF (mt4_jury l hAd (xs (Int32.toNatClampNeg (x4 + (1 : Int32)))) (xs (Int32.toNatClampNeg (x4 + (2 : Int32)))) M _ h) (cwV 2 S.2.2.2.2 (lw_V q2046 q2047 q2048 q145 q2049) rfl rfl rfl cdX4_jury ⟨Nat.le_of_ble_eq_true rfl, Nat.le_of_ble_eq_true rfl⟩) rfl rfl hl.1 (Nat.le_of_ble_eq_true rfl) dL_law_1148 hk (fun r_237 M_238 H1 locs h hP1 hz hkq hS => ?_)
                                                                replace hV := hV.kept (fun b9 x9 hb9 => hkq b9 (hV.lt hb9) (fun hm => hAm b9 hm (hV.inA hb9)))
                                                                replace hZ : ∀ q : Nat, H1.size ≤ q → A q := fun q hq => hZ q (Nat.le_trans hz hq)
                                                                clear hP hkq hz
                                                                have hP := hP1
                                                                refine lv_icmp_eq (tgt := 1243) hx hb dL_law_1151 (by decide) (fun c_239 => ?_) (fun c_239 => ?_)
                                                                · replace h := h.1 c_239
                                                                  exact C1243 _ ih _ _ _ _ _ _ _ _ hV hP hZ hS hk (lv_sub hl [0, 1, 2, 3, 4] rfl) h
                                                                · replace h := h.2 c_239
                                                                  refine lv_iconst hx hb dL_law_1154 kc_0 ?_
                                                                  exact h.elim
                                                              · replace h := h.2 c_232
                                                                by_cases c_240 : v_2 = 28
                                                                · replace h := h.1 c_240
                                                                  refine lv_tableIn (tgt := 1156) hx hb dL_law_40 (by rw [c_240]; decide) (by rw [c_240]; decide) (by rw [c_240]; rfl) (by decide) ?_
                                                                  refine lv_aload_n hx hb dL_law_1156 rfl (lv_at hl 1 rfl) ?_
                                                                  refine lv_aload_n hx hb dL_law_1157 rfl (lv_at hl 0 rfl) ?_
                                                                  refine lv_iload hx hb dL_law_1158 (lv_at hl 4 rfl) ?_
                                                                  refine lv_iconst hx hb dL_law_1160 kc_1 ?_
                                                                  refine lv_iadd hx hb dL_law_1161 ?_
                                                                  obtain ⟨hi, h⟩ := h
                                                                  refine va_sld hx hb hX hbl hbA hS hi dL_law_1162 ?_
                                                                  obtain ⟨o_243, e_244, h⟩ := bO_e h
                                                                  refine lk_i (lr_V (As := [.int (xs (Int32.toNatClampNeg (x4 + (1 : Int32))))]) (rest := []) S hK hG hV hS hAA hZ e_244 rfl (mvX1_there l x (xs (Int32.toNatClampNeg (x4 + (1 : Int32)))) V _ h) (cwV 1 S.2.2.2.2 (lw_V q1315 q1316 q1317 q139 q1318) rfl rfl rfl cdX1_there ⟨Nat.le_of_ble_eq_true rfl, Nat.le_of_ble_eq_true rfl⟩) rfl hl.1 (Nat.le_of_ble_eq_true rfl) dL_law_1163 hk) hS hAA (fun r_241 V_242 H1 locs h hV1 hz hkq hS => ?_)
                                                                  replace hP := mo_kept hAd hP (fun q hq => hkq q (mo_lt hP hq) (hAm q hq))
                                                                  replace hZ : ∀ q : Nat, H1.size ≤ q → A q := fun q hq => hZ q (Nat.le_trans hz hq)
                                                                  clear hV hkq hz
                                                                  have hV := hV1
                                                                  refine lv_aload_n hx hb dL_law_1166 rfl (lv_at hl 2 rfl) ?_
                                                                  refine lv_aload_n hx hb dL_law_1167 rfl (lv_at hl 0 rfl) ?_
                                                                  refine lv_iload hx hb dL_law_1168 (lv_at hl 4 rfl) ?_
                                                                  refine lv_iconst hx hb dL_law_1170 kc_1 ?_
                                                                  refine lv_iadd hx hb dL_law_1171 ?_
                                                                  obtain ⟨hi, h⟩ := h
                                                                  refine va_sld hx hb hX hbl hbA hS hi dL_law_1172 ?_
                                                                  refine mA_i (As := [.int (xs (Int32.toNatClampNeg (x4 + (1 : Int32))))]) (rest := [.int r_241]) S hK.1 hP hS hF (mt4_there_2 l hAd (xs (Int32.toNatClampNeg (x4 + (1 : Int32)))) M _ h) (cwV 1 S.2.2.2.2 (lw_V q2058 q2059 q2060 q145 q2061) rfl rfl rfl cdX4_there_2 ⟨Nat.le_of_ble_eq_true rfl, Nat.le_of_ble_eq_true rfl⟩) rfl rfl hl.1 (Nat.le_of_ble_eq_true rfl) dL_law_1173 hk (fun r_245 M_246 H1 locs h hP1 hz hkq hS => ?_)
                                                                  replace hV := hV.kept (fun b9 x9 hb9 => hkq b9 (hV.lt hb9) (fun hm => hAm b9 hm (hV.inA hb9)))
                                                                  replace hZ : ∀ q : Nat, H1.size ≤ q → A q := fun q hq => hZ q (Nat.le_trans hz hq)
                                                                  clear hP hkq hz
                                                                  have hP := hP1
                                                                  refine lv_icmp_eq (tgt := 1243) hx hb dL_law_1176 (by decide) (fun c_247 => ?_) (fun c_247 => ?_)
                                                                  · replace h := h.1 c_247
                                                                    exact C1243 _ ih _ _ _ _ _ _ _ _ hV hP hZ hS hk (lv_sub hl [0, 1, 2, 3, 4] rfl) h
                                                                  · replace h := h.2 c_247
                                                                    refine lv_iconst hx hb dL_law_1179 kc_0 ?_
                                                                    exact h.elim
                                                                · replace h := h.2 c_240
                                                                  by_cases c_248 : v_2 = 29
                                                                  · replace h := h.1 c_248
                                                                    refine lv_tableIn (tgt := 1181) hx hb dL_law_40 (by rw [c_248]; decide) (by rw [c_248]; decide) (by rw [c_248]; rfl) (by decide) ?_
                                                                    refine lv_aload_n hx hb dL_law_1181 rfl (lv_at hl 1 rfl) ?_
                                                                    refine lv_aload_n hx hb dL_law_1182 rfl (lv_at hl 0 rfl) ?_
                                                                    refine lv_iload hx hb dL_law_1183 (lv_at hl 4 rfl) ?_
                                                                    refine lv_iconst hx hb dL_law_1185 kc_1 ?_
                                                                    refine lv_iadd hx hb dL_law_1186 ?_
                                                                    obtain ⟨hi, h⟩ := h
                                                                    refine va_sld hx hb hX hbl hbA hS hi dL_law_1187 ?_
                                                                    refine lv_aload_n hx hb dL_law_1188 rfl (lv_at hl 0 rfl) ?_
                                                                    refine lv_iload hx hb dL_law_1189 (lv_at hl 4 rfl) ?_
                                                                    refine lv_iconst hx hb dL_law_1191 kc_2 ?_
                                                                    refine lv_iadd hx hb dL_law_1192 ?_
                                                                    obtain ⟨hi, h⟩ := h
                                                                    refine va_sld hx hb hX hbl hbA hS hi dL_law_1193 ?_
                                                                    obtain ⟨o_251, e_252, h⟩ := bO_e h
                                                                    refine lk_i (lr_V (As := [.int (xs (Int32.toNatClampNeg (x4 + (1 : Int32)))), .int (xs (Int32.toNatClampNeg (x4 + (2 : Int32))))]) (rest := []) S hK hG hV hS hAA hZ e_252 rfl (mvX1_found l x (xs (Int32.toNatClampNeg (x4 + (1 : Int32)))) (xs (Int32.toNatClampNeg (x4 + (2 : Int32)))) V _ h) (cwV 2 S.2.2.2.2 (lw_V q1319 q1320 q1321 q139 q1322) rfl rfl rfl cdX1_found ⟨Nat.le_of_ble_eq_true rfl, Nat.le_of_ble_eq_true rfl⟩) rfl hl.1 (Nat.le_of_ble_eq_true rfl) dL_law_1194 hk) hS hAA (fun r_249 V_250 H1 locs h hV1 hz hkq hS => ?_)
                                                                    replace hP := mo_kept hAd hP (fun q hq => hkq q (mo_lt hP hq) (hAm q hq))
                                                                    replace hZ : ∀ q : Nat, H1.size ≤ q → A q := fun q hq => hZ q (Nat.le_trans hz hq)
                                                                    clear hV hkq hz
                                                                    have hV := hV1
                                                                    refine lv_aload_n hx hb dL_law_1197 rfl (lv_at hl 2 rfl) ?_
                                                                    refine lv_aload_n hx hb dL_law_1198 rfl (lv_at hl 0 rfl) ?_
                                                                    refine lv_iload hx hb dL_law_1199 (lv_at hl 4 rfl) ?_
                                                                    refine lv_iconst hx hb dL_law_1201 kc_1 ?_
                                                                    refine lv_iadd hx hb dL_law_1202 ?_
                                                                    obtain ⟨hi, h⟩ := h
                                                                    refine va_sld hx hb hX hbl hbA hS hi dL_law_1203 ?_
                                                                    refine lv_aload_n hx hb dL_law_1204 rfl (lv_at hl 0 rfl) ?_
                                                                    refine lv_iload hx hb dL_law_1205 (lv_at hl 4 rfl) ?_
                                                                    refine lv_iconst hx hb dL_law_1207 kc_2 ?_
                                                                    refine lv_iadd hx hb dL_law_1208 ?_
                                                                    obtain ⟨hi, h⟩ := h
                                                                    refine va_sld hx hb hX hbl hbA hS hi dL_law_1209 ?_
                                                                    refine mA_i (As := [.int (xs (Int32.toNatClampNeg (x4 + (1 : Int32)))), .int (xs (Int32.toNatClampNeg (x4 + (2 : Int32))))]) (rest := [.int r_249]) S hK.1 hP hS hF (mt4_found l hAd (xs (Int32.toNatClampNeg (x4 + (1 : Int32)))) (xs (Int32.toNatClampNeg (x4 + (2 : Int32)))) M _ h) (cwV 2 S.2.2.2.2 (lw_V q2062 q2063 q2064 q145 q2065) rfl rfl rfl cdX4_found ⟨Nat.le_of_ble_eq_true rfl, Nat.le_of_ble_eq_true rfl⟩) rfl rfl hl.1 (Nat.le_of_ble_eq_true rfl) dL_law_1210 hk (fun r_253 M_254 H1 locs h hP1 hz hkq hS => ?_)
                                                                    replace hV := hV.kept (fun b9 x9 hb9 => hkq b9 (hV.lt hb9) (fun hm => hAm b9 hm (hV.inA hb9)))
                                                                    replace hZ : ∀ q : Nat, H1.size ≤ q → A q := fun q hq => hZ q (Nat.le_trans hz hq)
                                                                    clear hP hkq hz
                                                                    have hP := hP1
                                                                    refine lv_icmp_eq (tgt := 1243) hx hb dL_law_1213 (by decide) (fun c_255 => ?_) (fun c_255 => ?_)
                                                                    · replace h := h.1 c_255
                                                                      exact C1243 _ ih _ _ _ _ _ _ _ _ hV hP hZ hS hk (lv_sub hl [0, 1, 2, 3, 4] rfl) h
                                                                    · replace h := h.2 c_255
                                                                      refine lv_iconst hx hb dL_law_1216 kc_0 ?_
                                                                      exact h.elim
                                                                  · replace h := h.2 c_248
                                                                    by_cases c_256 : v_2 = 30
                                                                    · replace h := h.1 c_256
                                                                      refine lv_tableIn (tgt := 1218) hx hb dL_law_40 (by rw [c_256]; decide) (by rw [c_256]; decide) (by rw [c_256]; rfl) (by decide) ?_
                                                                      refine lv_aload_n hx hb dL_law_1218 rfl (lv_at hl 1 rfl) ?_
                                                                      refine lv_aload_n hx hb dL_law_1219 rfl (lv_at hl 0 rfl) ?_
                                                                      refine lv_iload hx hb dL_law_1220 (lv_at hl 4 rfl) ?_
                                                                      refine lv_iconst hx hb dL_law_1222 kc_1 ?_
                                                                      refine lv_iadd hx hb dL_law_1223 ?_
                                                                      obtain ⟨hi, h⟩ := h
                                                                      refine va_sld hx hb hX hbl hbA hS hi dL_law_1224 ?_
                                                                      obtain ⟨o_259, e_260, h⟩ := bO_e h
                                                                      refine lk_i (lr_V (As := [.int (xs (Int32.toNatClampNeg (x4 + (1 : Int32))))]) (rest := []) S hK hG hV hS hAA hZ e_260 rfl (mvX1_count l x (xs (Int32.toNatClampNeg (x4 + (1 : Int32)))) V _ h) (cwV 1 S.2.2.2.2 (lw_V q1323 q1025 q1026 q139 q1027) rfl rfl rfl cdX1_count ⟨Nat.le_of_ble_eq_true rfl, Nat.le_of_ble_eq_true rfl⟩) rfl hl.1 (Nat.le_of_ble_eq_true rfl) dL_law_1225 hk) hS hAA (fun r_257 V_258 H1 locs h hV1 hz hkq hS => ?_)
                                                                      replace hP := mo_kept hAd hP (fun q hq => hkq q (mo_lt hP hq) (hAm q hq))
                                                                      replace hZ : ∀ q : Nat, H1.size ≤ q → A q := fun q hq => hZ q (Nat.le_trans hz hq)
                                                                      clear hV hkq hz
                                                                      have hV := hV1
                                                                      refine lv_aload_n hx hb dL_law_1228 rfl (lv_at hl 2 rfl) ?_
                                                                      refine lv_aload_n hx hb dL_law_1229 rfl (lv_at hl 0 rfl) ?_
                                                                      refine lv_iload hx hb dL_law_1230 (lv_at hl 4 rfl) ?_
                                                                      refine lv_iconst hx hb dL_law_1232 kc_1 ?_
                                                                      refine lv_iadd hx hb dL_law_1233 ?_
                                                                      obtain ⟨hi, h⟩ := h
                                                                      refine va_sld hx hb hX hbl hbA hS hi dL_law_1234 ?_
                                                                      refine mA_i (As := [.int (xs (Int32.toNatClampNeg (x4 + (1 : Int32))))]) (rest := [.int r_257]) S hK.1 hP hS hF (mt4_count l hAd (xs (Int32.toNatClampNeg (x4 + (1 : Int32)))) M _ h) (cwV 1 S.2.2.2.2 (lw_V q2066 q2067 q2068 q145 q2069) rfl rfl rfl cdX4_count ⟨Nat.le_of_ble_eq_true rfl, Nat.le_of_ble_eq_true rfl⟩) rfl rfl hl.1 (Nat.le_of_ble_eq_true rfl) dL_law_1235 hk (fun r_261 M_262 H1 locs h hP1 hz hkq hS => ?_)
                                                                      replace hV := hV.kept (fun b9 x9 hb9 => hkq b9 (hV.lt hb9) (fun hm => hAm b9 hm (hV.inA hb9)))
                                                                      replace hZ : ∀ q : Nat, H1.size ≤ q → A q := fun q hq => hZ q (Nat.le_trans hz hq)
                                                                      clear hP hkq hz
                                                                      have hP := hP1
                                                                      refine lv_icmp_eq (tgt := 1243) hx hb dL_law_1238 (by decide) (fun c_263 => ?_) (fun c_263 => ?_)
                                                                      · replace h := h.1 c_263
                                                                        exact C1243 _ ih _ _ _ _ _ _ _ _ hV hP hZ hS hk (lv_sub hl [0, 1, 2, 3, 4] rfl) h
                                                                      · replace h := h.2 c_263
                                                                        refine lv_iconst hx hb dL_law_1241 kc_0 ?_
                                                                        exact h.elim
                                                                    · replace h := h.2 c_256
                                                                      refine lv_tableOut (tgt := 1243) hx hb dL_law_40 (by have z0 := sw_n (n := 0) c_3 rfl; have z1 := sw_n (n := 1) c_12 rfl; have z2 := sw_n (n := 2) c_22 rfl; have z3 := sw_n (n := 3) c_30 rfl; have z4 := sw_n (n := 4) c_38 rfl; have z5 := sw_n (n := 5) c_52 rfl; have z6 := sw_n (n := 6) c_60 rfl; have z7 := sw_n (n := 7) c_68 rfl; have z8 := sw_n (n := 8) c_80 rfl; have z9 := sw_n (n := 9) c_88 rfl; have z10 := sw_n (n := 10) c_96 rfl; have z11 := sw_n (n := 11) c_104 rfl; have z12 := sw_n (n := 12) c_112 rfl; have z13 := sw_n (n := 13) c_120 rfl; have z14 := sw_n (n := 14) c_128 rfl; have z15 := sw_n (n := 15) c_136 rfl; have z16 := sw_n (n := 16) c_144 rfl; have z17 := sw_n (n := 17) c_152 rfl; have z18 := sw_n (n := 18) c_160 rfl; have z19 := sw_n (n := 19) c_168 rfl; have z20 := sw_n (n := 20) c_176 rfl; have z21 := sw_n (n := 21) c_184 rfl; have z22 := sw_n (n := 22) c_192 rfl; have z23 := sw_n (n := 23) c_200 rfl; have z24 := sw_n (n := 24) c_208 rfl; have z25 := sw_n (n := 25) c_216 rfl; have z26 := sw_n (n := 26) c_224 rfl; have z27 := sw_n (n := 27) c_232 rfl; have z28 := sw_n (n := 28) c_240 rfl; have z29 := sw_n (n := 29) c_248 rfl; have z30 := sw_n (n := 30) c_256 rfl; omega) (by decide) ?_
                                                                      exact C1243 _ ih _ _ _ _ _ _ _ _ hV hP hZ hS hk (lv_sub hl [0, 1, 2, 3, 4] rfl) h
  exact L23
