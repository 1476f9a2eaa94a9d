/-! THE LAW'S START: from the entry to the loop -/
/-- what is owed, in plain Lean: from the two fresh systems every script's loop comes to its end -/
def vL_all (cA : Nat → ClassId) (L : Nat) (xs : Nat → Int32) : Prop :=
  ∀ (x : Nat) (V0 : VS), V0 = vU (fun _ => none) x (.inr (1, [.null, .int 0, .int 0, .int 0, .int 0, .int 0, .int 0, .int 0, .int 0, .int 0, .null, .null, .null, .long 0, .long 0, .null, .null, .int 0, .null, .null, .null])) → ∃ mc1 ms1 : Nat, 1 + mc1 + 1 ≤ 1200384 ∧ 21 + ms1 + 66 ≤ 5490858 ∧ vX1_init cA x V0 mc1 ms1 (fun V1 =>
    ∀ (m0 : Nat) (V2 : VS), V2 = vU (fun _ => none) m0 (.inr (0, [.null, .int 0, .int 0, .null, .int 0, .int 0, .int 0, .int 0, .int 0, .int 0, .int 0, .int 0, .int 0, .int 0, .int 0, .int 0, .int 0, .int 0, .int 0, .int 0, .int 0, .null, .null, .null, .null, .null, .null, .null, .null, .null, .null, .null, .null, .null, .null, .null, .null, .null, .null, .null, .null, .null, .null, .null, .int 0, .int 0, .int 0, .int 0, .int 0, .int 0, .null, .null, .int 0, .int 0, .int 0, .int 0, .int 0, .int 0, .long 0, .long 0, .null, .null, .null, .null, .int 0, .long 0])) → ∃ mc2 ms2 : Nat, 1 + mc1 + 1 + mc2 + 1 ≤ 1200384 ∧ 21 + ms1 + 66 + ms2 + 1 ≤ 5490858 ∧ vX4_init cA m0 V2 mc2 ms2 (fun _ => none) (fun M _ =>
      ∀ (out : Nat) (V3 : VS), V1 out = none → V3 = vU V1 out (.inl (cA 2, 1, .inr (.inl (fun _ => 0)))) → ∃ n : Nat, vL_l23 cA x out L xs n 0 V3 M (1 + mc1 + 1 + mc2 + 1) (21 + ms1 + 66 + ms2 + 1)))
set_option maxHeartbeats 4000000 in
theorem whole_of (hP : ∀ (cA : Nat → ClassId) (L : Nat) (xs : Nat → Int32), L ≤ 384 → vL_all cA L xs) {p : Program} {e : Env} {s : State} {m : MethodId} {below : List Frame} {meth : Method} {c : Code} (l : Launch) (hflags : l.flags = flags0) {b L : Nat} {xs : Nat → Int32} (hL : L ≤ 384) (C0 : lw_At p s m meth c b L xs) : W p l e room_1 s m #[Value.ref b] below meth c s.heap [] 0 0 (lw_Z below #[Value.ref b] s) (entryFrame m ([Value.ref b] : List Value).toArray 7) := by
  obtain ⟨hx, hb, hr, hml, hown, hts, hX, hbl, hlocks, hgv⟩ := id C0
  have hT : l.stackTraces = false := by rw [Launch.stackTraces, hflags]; decide +kernel
  have hs : ∀ w ∈ st_pr, w.before #[Value.ref b] s = true := flat_of_before _ hgv
  obtain ⟨D, cA, hK⟩ := st_K hts (hs _ (by decide +kernel))
  have hG := st_H hts hgv
  have hta : ∀ w ∈ lw_all, w.before #[Value.ref b] s = true := fun w hw => hts w (List.mem_filter.mp hw).1
  have S : CallFix p m c code 7 s #[Value.ref b] lw_all R_law := ⟨hx, hb, hml, hown, hta⟩
  obtain ⟨A0, hA0e⟩ : ∃ A0 : Nat → Prop, A0 = fun q => s.heap.size ≤ q := ⟨_, rfl⟩
  rw [← hA0e] at hG
  have hA : ∀ q : Nat, s.heap.size ≤ q → A0 q := fun q h => by rw [hA0e]; exact h
  have hA0 : ∀ q : Nat, A0 q → s.heap.size ≤ q := fun q h => by rw [hA0e] at h; exact h
  have hbA : ¬ A0 b := fun h => Nat.not_le.mpr hbl (hA0 _ h)
  have hS : va_S A0 s.heap s.heap [] := va_S.rf
  have hV : HV D A0 (fun _ => none) s.heap := ⟨[], fun k q h => by simp at h, ⟨fun i j p q h => by simp at h, fun k q h => by simp at h⟩, fun a e => by simp⟩
  have hl := lv_entry ([.ref b]) (n := 7) (Nat.le_of_ble_eq_true rfl)
  rw [lg_entry_eq]
  generalize (lg_sl ([.ref b]) ++ List.replicate (7 - (lg_sl ([.ref b])).length) Slot.unset).toArray = ls at hl ⊢
  have hl : lv_has ls 7 [(0, .ref b)] := hl
  refine vw_new (ci := 1) (fs := [.null, .int 0, .int 0, .int 0, .int 0, .int 0, .int 0, .int 0, .int 0, .int 0, .null, .null, .null, .long 0, .long 0, .null, .null, .int 0, .null, .null, .null]) (C := RX1) (T := TX1) (N := 21) S hK hV hS hA in_X1 tyX1 tyX1_ok q175 q176 q139 rfl (fun j hj => by first | (rcases j with _ | _ | _ | _ | _ | _ | _ | _ | _ | _ | _ | _ | _ | _ | _ | _ | _ | _ | _ | _ | _ | j <;> first | rfl | omega)) (Nat.le_of_ble_eq_true rfl) (Nat.le_of_ble_eq_true rfl) dL_law_0 (fun x V0 H g1 g2 hV hS => ?_)
  obtain ⟨mc1, ms1, hc1, hc2, h⟩ := hP cA L xs hL x V0 g2
  refine lv_dup hx hb dL_law_3 rfl ?_
  refine va_callv (va_runI (g := F0 m 4 ls (([] : List Value).reverse ++ .ref x :: [.ref x])) S (mvX1_init l x V0 mc1 ms1 _ h) (cwI 0 S.2.2.2.2 (lw_meth q179) rfl rfl rfl (S.2.2.2.2 _ q139) (S.2.2.2.2 _ q177) (S.2.2.2.2 _ q178) rfl cdX1_init ⟨Nat.le_of_ble_eq_true rfl, Nat.le_of_ble_eq_true rfl⟩) ⟨vPc_blind, l_pre hK hG hV hS (fun _ h => h) (fun q hq => hA q (Nat.le_trans hS.1 hq)) _⟩ rfl rfl hl.1 rfl (lv_room (Nat.le_of_ble_eq_true rfl)) dL_law_4 ⟨by show 0 + 1 + mc1 ≤ 1200384; omega, by show 0 + 21 + ms1 ≤ 5490858; omega⟩) hS (fun q _ h => h) (fun q h => h) (fun V1 t H1 locs ht _ h hB hz1 hk1 hS => ?_)
  have hV1 : HV D A0 V1 H1 := by rw [← ht]; exact hB
  clear hB ht hV
  refine lv_astore_n (lv' := [(1, .ref x), (0, .ref b)]) hx hb dL_law_7 rfl hl (by decide) rfl (fun ls hl => ?_)
  refine vw_new (ci := 0) (fs := [.null, .int 0, .int 0, .null, .int 0, .int 0, .int 0, .int 0, .int 0, .int 0, .int 0, .int 0, .int 0, .int 0, .int 0, .int 0, .int 0, .int 0, .int 0, .int 0, .int 0, .null, .null, .null, .null, .null, .null, .null, .null, .null, .null, .null, .null, .null, .null, .null, .null, .null, .null, .null, .null, .null, .null, .null, .int 0, .int 0, .int 0, .int 0, .int 0, .int 0, .null, .null, .int 0, .int 0, .int 0, .int 0, .int 0, .int 0, .long 0, .long 0, .null, .null, .null, .null, .int 0, .long 0]) (C := RX4) (T := TX4) (N := 66) S hK hV1 hS hA in_X4 tyX4 tyX4_ok q1402 q1403 q145 rfl (fun j hj => by first | (rcases j with _ | _ | _ | _ | _ | _ | _ | _ | _ | _ | _ | _ | _ | _ | _ | _ | _ | _ | _ | _ | _ | _ | _ | _ | _ | _ | _ | _ | _ | _ | _ | _ | _ | _ | _ | _ | _ | _ | _ | _ | _ | _ | _ | _ | _ | _ | _ | _ | _ | _ | _ | _ | _ | _ | _ | _ | _ | _ | _ | _ | _ | _ | _ | _ | _ | _ | j <;> first | rfl | omega)) (by show 0 + 1 + mc1 + 1 ≤ 1200384; omega) (by show 0 + 21 + ms1 + 66 ≤ 5490858; omega) dL_law_8 (fun m0 Vx H2 g1 g2 hVx hS => ?_)
  have hm0 : A0 m0 := hVx.inA (e := (.inr (0, [.null, .int 0, .int 0, .null, .int 0, .int 0, .int 0, .int 0, .int 0, .int 0, .int 0, .int 0, .int 0, .int 0, .int 0, .int 0, .int 0, .int 0, .int 0, .int 0, .int 0, .null, .null, .null, .null, .null, .null, .null, .null, .null, .null, .null, .null, .null, .null, .null, .null, .null, .null, .null, .null, .null, .null, .null, .int 0, .int 0, .int 0, .int 0, .int 0, .int 0, .null, .null, .int 0, .int 0, .int 0, .int 0, .int 0, .int 0, .long 0, .long 0, .null, .null, .null, .null, .int 0, .long 0]) : va_E)) (by rw [g2]; simp [vU])
  have hm0l : m0 < H2.size := hVx.lt (e := (.inr (0, [.null, .int 0, .int 0, .null, .int 0, .int 0, .int 0, .int 0, .int 0, .int 0, .int 0, .int 0, .int 0, .int 0, .int 0, .int 0, .int 0, .int 0, .int 0, .int 0, .int 0, .null, .null, .null, .null, .null, .null, .null, .null, .null, .null, .null, .null, .null, .null, .null, .null, .null, .null, .null, .null, .null, .null, .null, .int 0, .int 0, .int 0, .int 0, .int 0, .int 0, .null, .null, .int 0, .int 0, .int 0, .int 0, .int 0, .int 0, .long 0, .long 0, .null, .null, .null, .null, .int 0, .long 0]) : va_E)) (by rw [g2]; simp [vU])
  have hV1' : HV D A0 V1 H2 := hVx.sub (fun b9 x9 h9 => by
    rw [g2]
    show (if b9 = m0 then _ else V1 b9) = some x9
    rw [if_neg (fun e => by rw [e, g1] at h9; cases h9)]
    exact h9)
  obtain ⟨A2, hA2e⟩ : ∃ A2 : Nat → Prop, A2 = fun q => H2.size ≤ q ∨ q = m0 := ⟨_, rfl⟩
  have hA20 : ∀ q, A2 q → A0 q := fun q h => by
    rw [hA2e] at h
    rcases h with h | rfl
    · exact hA q (Nat.le_trans hS.1 h)
    · exact hm0
  have hA2s : ∀ q, H2.size ≤ q → A2 q := fun q h => by rw [hA2e]; exact Or.inl h
  have hVm : HV D A2 (vU (fun _ => none) m0 (.inr (0, [.null, .int 0, .int 0, .null, .int 0, .int 0, .int 0, .int 0, .int 0, .int 0, .int 0, .int 0, .int 0, .int 0, .int 0, .int 0, .int 0, .int 0, .int 0, .int 0, .int 0, .null, .null, .null, .null, .null, .null, .null, .null, .null, .null, .null, .null, .null, .null, .null, .null, .null, .null, .null, .null, .null, .null, .null, .int 0, .int 0, .int 0, .int 0, .int 0, .int 0, .null, .null, .int 0, .int 0, .int 0, .int 0, .int 0, .int 0, .long 0, .long 0, .null, .null, .null, .null, .int 0, .long 0]))) H2 := by
    refine HV.weaken (hVx.sub (fun b9 x9 h9 => ?_)) (fun b9 x9 h9 => ?_)
    · rw [g2]
      show (if b9 = m0 then _ else V1 b9) = some x9
      have h9 : (if b9 = m0 then some (.inr (0, [.null, .int 0, .int 0, .null, .int 0, .int 0, .int 0, .int 0, .int 0, .int 0, .int 0, .int 0, .int 0, .int 0, .int 0, .int 0, .int 0, .int 0, .int 0, .int 0, .int 0, .null, .null, .null, .null, .null, .null, .null, .null, .null, .null, .null, .null, .null, .null, .null, .null, .null, .null, .null, .null, .null, .null, .null, .int 0, .int 0, .int 0, .int 0, .int 0, .int 0, .null, .null, .int 0, .int 0, .int 0, .int 0, .int 0, .int 0, .long 0, .long 0, .null, .null, .null, .null, .int 0, .long 0]) : va_E) else none) = some x9 := h9
      by_cases e : b9 = m0
      · rw [if_pos e] at h9 ⊢; exact h9
      · rw [if_neg e] at h9; cases h9
    · have h9 : (if b9 = m0 then some (.inr (0, [.null, .int 0, .int 0, .null, .int 0, .int 0, .int 0, .int 0, .int 0, .int 0, .int 0, .int 0, .int 0, .int 0, .int 0, .int 0, .int 0, .int 0, .int 0, .int 0, .int 0, .null, .null, .null, .null, .null, .null, .null, .null, .null, .null, .null, .null, .null, .null, .null, .null, .null, .null, .null, .null, .null, .null, .null, .int 0, .int 0, .int 0, .int 0, .int 0, .int 0, .null, .null, .int 0, .int 0, .int 0, .int 0, .int 0, .int 0, .long 0, .long 0, .null, .null, .null, .null, .int 0, .long 0]) : va_E) else none) = some x9 := h9
      by_cases e : b9 = m0
      · rw [hA2e]; exact Or.inr e
      · rw [if_neg e] at h9; cases h9
  obtain ⟨mc2, ms2, hc3, hc4, h⟩ := h m0 _ rfl
  refine lv_dup hx hb dL_law_11 rfl ?_
  refine va_callv (va_runI (g := F0 m 12 ls (([] : List Value).reverse ++ .ref m0 :: [.ref m0])) S (mvX4_init l m0 _ mc2 ms2 _ _ h) (cwI 0 S.2.2.2.2 (lw_meth q1406) rfl rfl rfl (S.2.2.2.2 _ q145) (S.2.2.2.2 _ q1404) (S.2.2.2.2 _ q1405) rfl cdX4_init ⟨Nat.le_of_ble_eq_true rfl, Nat.le_of_ble_eq_true rfl⟩) ⟨vPc_blind, l_pre hK hG hVm hS hA20 hA2s _⟩ rfl rfl hl.1 rfl (lv_room (Nat.le_of_ble_eq_true rfl)) dL_law_12 ⟨by show 0 + 1 + mc1 + 1 + mc2 ≤ 1200384; omega, by show 0 + 21 + ms1 + 66 + ms2 ≤ 5490858; omega⟩) hS (fun q _ h => hA20 q h) (fun q h => hA20 q h) (fun u t H3 locs3 ht _ h hB hz3 hk3 hS3 => ?_)
  obtain ⟨M, ad⟩ := u
  obtain ⟨hAd, hPm, -, hAk⟩ := hB
  rw [ht] at hPm
  clear hS
  have hadl : ∀ k ∈ mAF, H2.size ≤ ad k := fun k hk => by
    have h1 := hAk k hk
    rw [hA2e] at h1
    rcases h1 with h1 | h1
    · exact h1
    · exact absurd h1 (hAd.1 k hk)
  have hV1l : ∀ (b9 : Nat) (x9 : va_E), V1 b9 = some x9 → b9 < H2.size ∧ b9 ≠ m0 := fun b9 x9 h9 => ⟨hV1'.lt h9, fun e => by rw [e, g1] at h9; cases h9⟩
  have hV3 : HV D A0 V1 H3 := hV1'.kept (fun b9 x9 h9 => hk3 b9 (hV1l b9 x9 h9).1 (fun h8 => by
    rw [hA2e] at h8
    rcases h8 with h8 | h8
    · exact Nat.not_le.mpr (hV1l b9 x9 h9).1 h8
    · exact (hV1l b9 x9 h9).2 h8))
  have hF : ∀ q, mF m0 ad q → A0 q := fun q h => by
    rcases h with rfl | ⟨k, hk, rfl⟩
    · exact hm0
    · exact hA20 _ (hAk k hk)
  obtain ⟨A, hAe⟩ : ∃ A : Nat → Prop, A = fun q => A0 q ∧ ¬ mF m0 ad q := ⟨_, rfl⟩
  have hAA : ∀ q, A q → A0 q := fun q h => by rw [hAe] at h; exact h.1
  have hAm : ∀ q, mF m0 ad q → ¬ A q := fun q h h2 => by rw [hAe] at h2; exact h2.2 h
  have hV4 : HV D A V1 H3 := hV3.weaken (fun b9 x9 h9 => by
    rw [hAe]
    refine ⟨hV3.inA h9, fun h8 => ?_⟩
    rcases h8 with h8 | ⟨k, hk, h8⟩
    · exact (hV1l b9 x9 h9).2 h8
    · have := (hV1l b9 x9 h9).1
      have := hadl k hk
      omega)
  have hA3 : ∀ q : Nat, H3.size ≤ q → A q := fun q hq => by
    rw [hAe]
    exact ⟨hA q (Nat.le_trans hS3.1 hq), fun h8 => Nat.not_le.mpr (mo_lt hPm h8) hq⟩
  refine va_forget (fun q hq => hA0 _ (hS3.2.2 q hq)) ?_
  refine lv_astore_n (lv' := [(2, .ref m0), (1, .ref x), (0, .ref b)]) hx hb dL_law_15 rfl hl (by decide) rfl (fun ls hl => ?_)
  refine lv_iconst hx hb dL_law_16 kc_1 ?_
  refine vw_arr (H0 := H3) (atype := .long) (ty := .long) (N' := 1) (a0 := (1, .inr (.inl (fun _ => 0)))) S hK hV4 (va_S.rf) hA3 2 q352 rfl rfl (fun C h => by cases h) (fun cA => rfl) (by decide) (by decide) (by decide) (by show 0 + 1 + mc1 + 1 + mc2 + 1 ≤ 1200384; omega) (by show 0 + 21 + ms1 + 66 + ms2 + 1 ≤ 5490858; omega) dL_law_17 (fun out V3 H4 g3 g4 hV hS => ?_)
  have hP4 := mo_kept hAd hPm (fun q hq => hS.2.1 q (mo_lt hPm hq) (hAm q hq))
  have hS4 : va_S A0 s.heap H4 [] := ⟨Nat.le_trans hS3.1 hS.1, fun q h1 h2 => by rw [hS.2.1 q (Nat.lt_of_lt_of_le h1 hS3.1) (fun h8 => h2 (hAA q h8))]; exact hS3.2.1 q h1 h2, fun q hq => by cases hq⟩
  refine lv_astore_n (lv' := [(3, .ref out), (2, .ref m0), (1, .ref x), (0, .ref b)]) hx hb dL_law_19 rfl hl (by decide) rfl (fun ls hl => ?_)
  refine lv_iconst hx hb dL_law_20 kc_0 ?_
  refine lv_istore (lv' := [(4, .int 0), (3, .ref out), (2, .ref m0), (1, .ref x), (0, .ref b)]) hx hb dL_law_21 hl (by decide) rfl (fun ls hl => ?_)
  obtain ⟨n, h⟩ := h out V3 g3 g4
  have e1 : 0 + 1 + mc1 + 1 + mc2 + 1 = 1 + mc1 + 1 + mc2 + 1 := by omega
  have e2 : 0 + 21 + ms1 + 66 + ms2 + 1 = 21 + ms1 + 66 + ms2 + 1 := by omega
  rw [← e1, ← e2] at h
  exact mvL_loop hAd hAA hAm hF hA0 hbA hT S hr hlocks hK hG hX hbl n 0 V3 M _ _ H4 [] ls hV hP4 (fun q hq => hA3 q (Nat.le_trans hS.1 hq)) hS4 ⟨by omega, by omega⟩ (lv_sub hl [4, 3, 2, 1, 0] rfl) h
