/-! CONSTANT MODE: String constants and the statics that String's methods read; nothing is written -/
def SC (A : Nat → Prop) (U : State) (H : Heap) (a n : Nat) (f : Nat → Int32) : Prop := va_O "java/lang/String" a A U H ∧ va_OF "java/lang/String" "coder" "B" (.int 0) a A U H ∧ ∃ b : Nat, va_OF "java/lang/String" "value" "[B" (.ref b) a A U H ∧ va_T .byte b n (fun j => .int (f j)) A U H
theorem SC.moved {A : Nat → Prop} {u U : State} {H : Heap} {a n : Nat} {f : Nat → Int32} (hvm : u.vm.Alike U.vm) (h : SC A u H a n f) : SC A U H a n f := by
  obtain ⟨h1, h2, b, h3, h4⟩ := h
  exact ⟨h1.moved hvm, h2.moved hvm, b, h3.moved hvm, h4.moved hvm⟩
theorem SC.kept {A : Nat → Prop} {U : State} {H H1 : Heap} {a n : Nat} {f : Nat → Int32} (h : SC A U H a n f) (hq : ∀ a : Nat, a < H.size → ¬ A a → H1[a]? = H[a]?) : SC A U H1 a n f := by
  obtain ⟨h1, h2, b, h3, h4⟩ := h
  exact ⟨h1.kept hq, h2.kept hq, b, h3.kept hq, h4.kept hq⟩
def SK (A : Nat → Prop) (U : State) (H : Heap) : Prop := va_Z "java/lang/String" "COMPACT_STRINGS" "Z" (.int 1) A U H ∧ va_Zq "jdk/internal/util/Preconditions" "SIOOBE_FORMATTER" "Ljava/util/function/BiFunction;" A U H
theorem SK.moved {A : Nat → Prop} {u U : State} {H : Heap} (hvm : u.vm.Alike U.vm) (h : SK A u H) : SK A U H := ⟨h.1.moved hvm, h.2.moved hvm⟩
theorem SK.kept {A : Nat → Prop} {U : State} {H H1 : Heap} (h : SK A U H) (hq : ∀ a : Nat, a < H.size → ¬ A a → H1[a]? = H[a]?) : SK A U H1 := ⟨h.1.kept hq, h.2.kept hq⟩
def kX (k : Nat) (A : Nat → Prop) (U : State) (H : Heap) (a n : Nat) (f : Nat → Int32) : Prop := match k with
  | 0 => SC A U H a n f
  | 1 => va_T .byte a n (fun j => .int (f j)) A U H
  | _ => True
theorem kX.moved {k : Nat} {A : Nat → Prop} {u U : State} {H : Heap} {a n : Nat} {f : Nat → Int32} (hvm : u.vm.Alike U.vm) (h : kX k A u H a n f) : kX k A U H a n f := by
  match k, h with
  | 0, h => exact SC.moved hvm h
  | 1, h => exact va_T.moved hvm h
  | k + 2, h => trivial
theorem kX.kept {k : Nat} {A : Nat → Prop} {U : State} {H H1 : Heap} {a n : Nat} {f : Nat → Int32} (h : kX k A U H a n f) (hq : ∀ a : Nat, a < H.size → ¬ A a → H1[a]? = H[a]?) : kX k A U H1 a n f := by
  match k, h with
  | 0, h => exact SC.kept h hq
  | 1, h => exact va_T.kept h hq
  | k + 2, h => trivial
abbrev kP (av : List Value) (A : Nat → Prop) (k a n : Nat) (f : Nat → Int32) : Array Value → State → Prop := va_Pc av (fun U => SK A U U.heap ∧ kX k A U U.heap a n f)
theorem kP_blind {av : List Value} {A : Nat → Prop} {k a n : Nat} {f : Nat → Int32} : FrameBlind (kP av A k a n f) := fun b U g mk q => by
  obtain ⟨q0, q1, q2⟩ := q
  exact ⟨q0, SK.moved (u := U) (Vm.Alike.refl U.vm) q1, kX.moved (u := U) (Vm.Alike.refl U.vm) q2⟩
section KST
variable {l : Launch} {y : MethodName} {cc : ByteArray} {maxL : Nat} {rm : Room} {A : Nat → Prop} {k a n : Nat} {f : Nat → Int32} {av : List Value} {own : String}
theorem kst_i {ty : FieldType} {Post : Int32 → Prop} (hy : plainName y.cls = true) (ho : y.cls = own) (hav : (lg_sl av).length ≤ maxL)
    (body : ∀ (p : Program) (e : Env) (s : State) (m : MethodId) (args : Array Value) (below : List Frame) (meth : Method) (c : Code) (Q : State → Prop) (ls : Array Slot), CallFix p m c cc maxL s args lw_all own → SK A s s.heap → kX k A s s.heap a n f → lv_has ls maxL (lv_args 0 av) →
      (∀ (pc : Nat) (ls : Array Slot) (v : Int32), Post v → narrow ty (.int v) = .int v → decode cc pc = .ok (.ireturn, 1) → W p l e rm s m args below meth c s.heap [] 0 0 Q (F0 m pc ls [.int v])) →
      W p l e rm s m args below meth c s.heap [] 0 0 Q (F0 m 0 ls [])) :
    Met l y (ws_ y cc maxL (some ty)) rm (kP av A k a n f) (vp_Si Post) 0 0 (fun _ => False) := by
  refine Met.ofW (cc := cc) (maxL := maxL) (ret := some ty) hy rfl ?_
  intro p e s m args below meth c s₁ B hml hv
  obtain ⟨rfl, h1, h2⟩ := hv
  have hts := atoms_spec (ws := ws_ y cc maxL (some ty)) B.pre
  have hts : ∀ w ∈ lw_all, w.before _ s = true := fun w h => hts w (List.mem_cons_of_mem _ h)
  have hown : s.vm.findClass own = some m.cls := by rw [← ho]; exact findClass_of_methodNamed B.named
  have hlocks := B.notSynchronized
  rw [lg_entry_eq]
  exact body p e s m _ below meth c _ _ ⟨B.exec, B.bytes, hml, hown, hts⟩ h1 h2 (lv_entry av hav)
    (fun pc ls v hp hn hd => W.zret (v := v) B.exec B.bytes B.returns hn (fun t ht hW => ⟨v, rfl, hp, ht⟩) (fun q h => by cases h) hd)
theorem kst_v {Post : Prop} (hy : plainName y.cls = true) (ho : y.cls = own) (hav : (lg_sl av).length ≤ maxL)
    (body : ∀ (p : Program) (e : Env) (s : State) (m : MethodId) (args : Array Value) (below : List Frame) (meth : Method) (c : Code) (Q : State → Prop) (ls : Array Slot), CallFix p m c cc maxL s args lw_all own → SK A s s.heap → kX k A s s.heap a n f → lv_has ls maxL (lv_args 0 av) →
      (∀ (pc : Nat) (ls : Array Slot), Post → decode cc pc = .ok (.return_, 1) → W p l e rm s m args below meth c s.heap [] 0 0 Q (F0 m pc ls [])) →
      W p l e rm s m args below meth c s.heap [] 0 0 Q (F0 m 0 ls [])) :
    Met l y (ws_ y cc maxL none) rm (kP av A k a n f) (va_Sv (fun _ => Post)) 0 0 (fun _ => False) := by
  refine Met.ofW (cc := cc) (maxL := maxL) (ret := none) hy rfl ?_
  intro p e s m args below meth c s₁ B hml hv
  obtain ⟨rfl, h1, h2⟩ := hv
  have hts := atoms_spec (ws := ws_ y cc maxL none) B.pre
  have hts : ∀ w ∈ lw_all, w.before _ s = true := fun w h => hts w (List.mem_cons_of_mem _ h)
  have hown : s.vm.findClass own = some m.cls := by rw [← ho]; exact findClass_of_methodNamed B.named
  have hlocks := B.notSynchronized
  rw [lg_entry_eq]
  exact body p e s m _ below meth c _ _ ⟨B.exec, B.bytes, hml, hown, hts⟩ h1 h2 (lv_entry av hav)
    (fun pc ls hp hd => W.vret B.exec B.bytes B.returns (fun t ht hW => ⟨rfl, hp, ht⟩) (fun q h => by cases h) hd)
end KST
section KCA
variable {p : Program} {l : Launch} {e : Env} {R : Room} {s : State} {m : MethodId} {args : Array Value} {below : List Frame} {meth : Method} {c : Code} {H : Heap} {locs : List Loc} {cells slots : Nat} {Q : State → Prop}
variable {cc : ByteArray} {pc nL : Nat} {ls : Array Slot} {rest st0 As : List Value} {A : Nat → Prop} {index maxL n : Nat} {y : MethodName} {bytes : ByteArray} {rm : Room} {own : String} {k a N : Nat} {f : Nat → Int32}
theorem k_ret {Qa : State → Outcome → State → Prop} (hr : va_Run p l e R s m args below meth c H locs cells slots 0 0 (F0 m pc ls st0) rest Qa (fun _ => False))
    (kk : ∀ (v : Option Value) (st t : State), Qa st (.returned v) t → t.heap = st.heap ∧ W p l e R s m args below meth c H locs cells slots Q (F0 m (pc + 3) ls (v.toList ++ rest))) : W p l e R s m args below meth c H locs cells slots Q (F0 m pc ls st0) := by
  intro T hT X
  obtain ⟨v, st₀, t, T', L, h0, X', hL, e1, e2, hq, st⟩ := hr T hT X
  obtain ⟨k1, k2⟩ := kk v st₀ t hq
  have hL0 := no_locs hL
  subst hL0
  obtain ⟨t2, a1, b1⟩ := k2 T' (by rw [e1, k1, h0]) (by simpa using X')
  exact ⟨t2, st t2 a1, b1⟩
theorem k_pre (hSK : SK A s s.heap) (hX : kX k A s s.heap a N f) (hS : va_S A s.heap H locs) (av : List Value) : ∀ U : State, U.heap = H → s.WarmedH U.vm → kP av A k a N f av.toArray U := by
  intro U hU hW
  refine ⟨rfl, ?_, ?_⟩
  · rw [hU]; exact (hSK.moved hW.alike).kept hS.2.1
  · rw [hU]; exact (hX.moved hW.alike).kept hS.2.1
theorem kc_i {ty : FieldType} {Post : Int32 → Prop} (S : CallFix p m c cc nL s args lw_all own) (hSK : SK A s s.heap) (hX : SC A s s.heap a N f) (hS : va_S A s.heap H locs) (hM : Met l y (ws_ y bytes maxL (some ty)) rm (kP (.ref a :: As) A 0 a N f) (vp_Si Post) 0 0 (fun _ => False))
    (cw : CallW R s args own "java/lang/String" index y bytes maxL (some ty) (ws_ y bytes maxL (some ty)) rm 0 0 n) (hn : As.length = n) (hst : st0 = As.reverse ++ .ref a :: rest) (hsz : ls.size = nL) (hroom : (rest.map fun v => v.category).sum ≤ 8) (hdg : decode cc pc = .ok (.invokevirtual index, 3)) (hc : cells ≤ R.cells ∧ slots ≤ R.slots)
    (kk : ∀ r : Int32, Post r → W p l e R s m args below meth c H locs cells slots Q (F0 m (pc + 3) ls (.int r :: rest))) : W p l e R s m args below meth c H locs cells slots Q (F0 m pc ls st0) := by
  subst hst
  refine k_ret (va_runV (g := F0 m pc ls (As.reverse ++ .ref a :: rest)) S hM cw ⟨kP_blind, ?_, k_pre hSK (k := 0) hX hS _⟩ rfl hn hsz rfl (lv_room hroom) hdg hc) (fun v st t hq => ?_)
  · obtain ⟨cell, h1, h2, h3, -⟩ := hX.1.kept hS.2.1
    exact ⟨cell, h1, h2, h3⟩
  · obtain ⟨r, hv, hp, hh⟩ := hq
    cases hv
    exact ⟨hh, kk r hp⟩
theorem ks_i {ty : FieldType} {Post : Int32 → Prop} (S : CallFix p m c cc nL s args lw_all own) (hSK : SK A s s.heap) (hX : kX k A s s.heap a N f) (hS : va_S A s.heap H locs) (hM : Met l y (ws_ y bytes maxL (some ty)) rm (kP As A k a N f) (vp_Si Post) 0 0 (fun _ => False))
    (cw : CallB R s args own index y bytes maxL (some ty) (ws_ y bytes maxL (some ty)) rm 0 0 n ∧ (Cond.static y).before args s = true) (hn : As.length = n) (hst : st0 = As.reverse ++ rest) (hsz : ls.size = nL) (hroom : (rest.map fun v => v.category).sum ≤ 8) (hdg : decode cc pc = .ok (.invokestatic index, 3)) (hc : cells ≤ R.cells ∧ slots ≤ R.slots)
    (kk : ∀ r : Int32, Post r → W p l e R s m args below meth c H locs cells slots Q (F0 m (pc + 3) ls (.int r :: rest))) : W p l e R s m args below meth c H locs cells slots Q (F0 m pc ls st0) := by
  subst hst
  refine k_ret (va_runS (g := F0 m pc ls (As.reverse ++ rest)) S hM cw ⟨kP_blind, k_pre hSK hX hS _⟩ rfl hn hsz rfl (lv_room hroom) hdg hc) (fun v st t hq => ?_)
  obtain ⟨r, hv, hp, hh⟩ := hq
  cases hv
  exact ⟨hh, kk r hp⟩
theorem ks_v {Post : Prop} (S : CallFix p m c cc nL s args lw_all own) (hSK : SK A s s.heap) (hX : kX k A s s.heap a N f) (hS : va_S A s.heap H locs) (hM : Met l y (ws_ y bytes maxL none) rm (kP As A k a N f) (va_Sv (fun _ => Post)) 0 0 (fun _ => False))
    (cw : CallB R s args own index y bytes maxL none (ws_ y bytes maxL none) rm 0 0 n ∧ (Cond.static y).before args s = true) (hn : As.length = n) (hst : st0 = As.reverse ++ rest) (hsz : ls.size = nL) (hroom : (rest.map fun v => v.category).sum ≤ 8) (hdg : decode cc pc = .ok (.invokestatic index, 3)) (hc : cells ≤ R.cells ∧ slots ≤ R.slots)
    (kk : Post → W p l e R s m args below meth c H locs cells slots Q (F0 m (pc + 3) ls rest)) : W p l e R s m args below meth c H locs cells slots Q (F0 m pc ls st0) := by
  subst hst
  refine k_ret (va_runS (g := F0 m pc ls (As.reverse ++ rest)) S hM cw ⟨kP_blind, k_pre hSK hX hS _⟩ rfl hn hsz rfl (lv_room hroom) hdg hc) (fun v st t hq => ?_)
  obtain ⟨hv, hp, hh⟩ := hq
  cases hv
  exact ⟨hh, kk hp⟩
theorem kgs_q (hexec : p.tables.exec = Jvm.exec) (hb : c.code = cc) {C nm d ref : String} (hZ : va_Zq C nm d A s s.heap) (hown : s.vm.findClass own = some m.cls) (hlink : (Cond.fieldLink own index ref nm d).before args s = true) (hsame : ∀ x, s.fieldFound? C nm d = some x → s.fieldFound? ref nm d = some x) (hdg : decode cc pc = .ok (.getstatic index, 3))
    (kk : ∀ r : Option Nat, W p l e R s m args below meth c s.heap [] cells slots Q (F0 m (pc + 3) ls (va_rf r :: rest))) : W p l e R s m args below meth c s.heap [] cells slots Q (F0 m pc ls rest) := by
  rcases hZ with h3 | ⟨t, h3⟩
  · exact va_gets hexec hb h3 va_S.rf hown hlink hsame hdg (kk none)
  · exact va_gets hexec hb h3 va_S.rf hown hlink hsame hdg (kk (some t))
end KCA
/-! HEAP MODE: the cells that a program knows, as a partial map of addresses -/
abbrev VS : Type := Nat → Option va_E
def vU (V : VS) (a : Nat) (e : va_E) : VS := fun b => if b = a then some e else V b
theorem vU_s (V : VS) (a : Nat) (e : va_E) : vU V a e a = some e := by simp [vU]
theorem vU_n (V : VS) {a b : Nat} (e : va_E) (h : b ≠ a) : vU V a e b = V b := by simp [vU, h]
/-- an answer that must be there -/
def bO {α : Type} (o : Option α) (f : α → Prop) : Prop := match o with
  | some x => f x
  | none => False
theorem bO_s {α : Type} (x : α) (f : α → Prop) : bO (some x) f = f x := rfl
theorem bO_of {α : Type} {o : Option α} {f : α → Prop} {x : α} (h : o = some x) (k : f x) : bO o f := by rw [h]; exact k
theorem bO_e {α : Type} {o : Option α} {f : α → Prop} (h : bO o f) : ∃ x, o = some x ∧ f x := by
  cases o with
  | none => exact h.elim
  | some x => exact ⟨x, rfl, h⟩
/-- an object of one of the kinds cs -/
def vO (V : VS) (cs : List Nat) (a : Nat) : Option (Nat × List Value) := match V a with
  | some (.inr o) => if cs.contains o.1 then some o else none
  | _ => none
def wI (v : Value) : Option Int32 := match v with
  | .int x => some x
  | _ => none
def wJ (v : Value) : Option Int64 := match v with
  | .long x => some x
  | _ => none
def wR (v : Value) : Option (Option Nat) := match v with
  | .null => some none
  | .ref a => some (some a)
  | _ => none
def gF (V : VS) (cs : List Nat) (a k : Nat) : Option Value := match vO V cs a with
  | some o => o.2[k]?
  | none => none
def gI (V : VS) (cs : List Nat) (a k : Nat) : Option Int32 := (gF V cs a k).bind wI
def gJ (V : VS) (cs : List Nat) (a k : Nat) : Option Int64 := (gF V cs a k).bind wJ
def gR (V : VS) (cs : List Nat) (a k : Nat) : Option (Option Nat) := (gF V cs a k).bind wR
def pF (V : VS) (cs : List Nat) (a k : Nat) (v : Value) : Option VS := match vO V cs a with
  | some o => if k < o.2.length then some (vU V a (.inr (o.1, o.2.set k v))) else none
  | none => none
/-- arrays: of ints (booleans, bytes), of longs, of references -/
def aI (V : VS) (c : ClassId) (a : Nat) : Option (Nat × (Nat → Int32)) := match V a with
  | some (.inl (d, n, .inl f)) => if d = c then some (n, f) else none
  | _ => none
def aJ (V : VS) (c : ClassId) (a : Nat) : Option (Nat × (Nat → Int64)) := match V a with
  | some (.inl (d, n, .inr (.inl f))) => if d = c then some (n, f) else none
  | _ => none
def aR (V : VS) (c : ClassId) (a : Nat) : Option (Nat × (Nat → Option Nat)) := match V a with
  | some (.inl (d, n, .inr (.inr (.inr (.inr f))))) => if d = c then some (n, f) else none
  | _ => none
def inb (i : Int32) (n : Nat) : Bool := !(decide (i < 0) || decide (n ≤ i.toNatClampNeg))
theorem inb_vp {i : Int32} {n : Nat} (h : inb i n = true) : vp_in i n := by
  simp [inb] at h
  intro g
  rcases g with g | g
  · exact absurd g (by simpa using h.1)
  · omega
theorem vp_inb {i : Int32} {n : Nat} (h : vp_in i n) : inb i n = true := by
  unfold vp_in at h
  simp only [not_or] at h
  simp [inb, h.1, h.2]
def lI (V : VS) (c : ClassId) (a : Nat) (i : Int32) : Option Int32 := match aI V c a with
  | some q => if inb i q.1 then some (q.2 i.toNatClampNeg) else none
  | none => none
def lJ (V : VS) (c : ClassId) (a : Nat) (i : Int32) : Option Int64 := match aJ V c a with
  | some q => if inb i q.1 then some (q.2 i.toNatClampNeg) else none
  | none => none
def lR (V : VS) (c : ClassId) (a : Nat) (i : Int32) : Option (Option Nat) := match aR V c a with
  | some q => if inb i q.1 then some (q.2 i.toNatClampNeg) else none
  | none => none
def tI (V : VS) (c : ClassId) (a : Nat) (i v : Int32) : Option VS := match aI V c a with
  | some q => if inb i q.1 then some (vU V a (.inl (c, q.1, .inl (upd q.2 i.toNatClampNeg v)))) else none
  | none => none
def tJ (V : VS) (c : ClassId) (a : Nat) (i : Int32) (v : Int64) : Option VS := match aJ V c a with
  | some q => if inb i q.1 then some (vU V a (.inl (c, q.1, .inr (.inl (vp_updL q.2 i.toNatClampNeg v))))) else none
  | none => none
def tR (V : VS) (c : ClassId) (a : Nat) (i : Int32) (v : Option Nat) : Option VS := match aR V c a with
  | some q => if inb i q.1 then some (vU V a (.inl (c, q.1, .inr (.inr (.inr (.inr (va_up q.2 i.toNatClampNeg v))))))) else none
  | none => none
def nA (V : VS) (c : ClassId) (a : Nat) : Option Nat := match V a with
  | some (.inl (d, n, _)) => if d = c then some n else none
  | _ => none
/-- the heap holds the cells V, all in A -/
def HV (D : va_G) (A : Nat → Prop) (V : VS) (H : Heap) : Prop := ∃ ws : va_W, va_P D vwCl ws H ∧ va_D A ws ∧ ∀ (a : Nat) (e : va_E), V a = some e ↔ (a, e) ∈ ws
theorem HV.at {D : va_G} {A : Nat → Prop} {V : VS} {H : Heap} (h : HV D A V H) {a : Nat} {e : va_E} (e1 : V a = some e) : ∃ (ws : va_W) (q : Nat), va_P D vwCl ws H ∧ va_D A ws ∧ (∀ (b : Nat) (x : va_E), V b = some x ↔ (b, x) ∈ ws) ∧ ws[q]? = some (a, e) := by
  obtain ⟨ws, h1, h2, h3⟩ := h
  obtain ⟨q, hq⟩ := List.mem_iff_getElem?.mp ((h3 a e).mp e1)
  exact ⟨ws, q, h1, h2, h3, hq⟩
theorem HV.mk_set {D : va_G} {A : Nat → Prop} {V : VS} {H1 : Heap} {ws : va_W} {q a : Nat} {e e' : va_E} (h3 : ∀ (b : Nat) (x : va_E), V b = some x ↔ (b, x) ∈ ws) (hq : ws[q]? = some (a, e)) (hP : va_P D vwCl (ws.set q (a, e')) H1) (hD : va_D A (ws.set q (a, e'))) : HV D A (vU V a e') H1 := by
  refine ⟨_, hP, hD, fun b x => ?_⟩
  have hql : q < ws.length := (List.getElem?_eq_some_iff.mp hq).1
  have hqs : (ws.set q (a, e'))[q]? = some (a, e') := by rw [List.getElem?_set, if_pos rfl, if_pos hql]
  constructor
  · intro hb
    by_cases hba : b = a
    · subst hba
      rw [vU_s] at hb
      cases hb
      exact List.mem_of_getElem? hqs
    · rw [vU_n _ _ hba] at hb
      obtain ⟨j, hj⟩ := List.mem_iff_getElem?.mp ((h3 b x).mp hb)
      have hjq : q ≠ j := by
        intro hh
        subst hh
        rw [hq] at hj
        cases hj
        exact hba rfl
      refine List.mem_of_getElem? (i := j) ?_
      rw [List.getElem?_set, if_neg hjq]
      exact hj
  · intro hb
    obtain ⟨j, hj⟩ := List.mem_iff_getElem?.mp hb
    by_cases hjq : q = j
    · subst hjq
      rw [hqs] at hj
      cases hj
      exact vU_s V _ _
    · have hj2 : ws[j]? = some (b, x) := by
        rw [List.getElem?_set, if_neg hjq] at hj
        exact hj
      have hba : b ≠ a := by
        intro hh
        subst hh
        exact hjq (hD.1 q j _ _ hqs hj rfl)
      rw [vU_n _ _ hba]
      exact (h3 b x).mpr (List.mem_of_getElem? hj2)
theorem HV.mk_app {D : va_G} {A : Nat → Prop} {V : VS} {H1 : Heap} {ws : va_W} {a : Nat} {e' : va_E} (h3 : ∀ (b : Nat) (x : va_E), V b = some x ↔ (b, x) ∈ ws) (hn : V a = none) (hP : va_P D vwCl (ws ++ [(a, e')]) H1) (hD : va_D A (ws ++ [(a, e')])) : HV D A (vU V a e') H1 := by
  refine ⟨_, hP, hD, fun b x => ?_⟩
  by_cases hba : b = a
  · subst hba
    rw [vU_s]
    constructor
    · intro hb
      cases hb
      exact List.mem_append_right _ (List.mem_singleton.mpr rfl)
    · intro hb
      rcases List.mem_append.mp hb with hb | hb
      · have := (h3 b x).mpr hb
        rw [hn] at this
        cases this
      · cases List.mem_singleton.mp hb
        rfl
  · rw [vU_n _ _ hba, h3 b x, List.mem_append]
    constructor
    · exact Or.inl
    · intro hb
      rcases hb with hb | hb
      · exact hb
      · cases List.mem_singleton.mp hb
        exact absurd rfl hba
theorem HV.lt {D : va_G} {A : Nat → Prop} {V : VS} {H : Heap} (h : HV D A V H) {a : Nat} {e : va_E} (e1 : V a = some e) : a < H.size := by
  obtain ⟨ws, q, h1, -, -, h4⟩ := h.at e1
  exact (h1 q _ h4).lt
theorem HV.none {D : va_G} {A : Nat → Prop} {V : VS} {H : Heap} (h : HV D A V H) : V H.size = none := by
  cases e : V H.size with
  | none => rfl
  | some x => exact absurd (h.lt e) (Nat.lt_irrefl _)
theorem vO_e {V : VS} {cs : List Nat} {a : Nat} {o : Nat × List Value} (h : vO V cs a = some o) : V a = some (.inr o) ∧ o.1 ∈ cs := by
  unfold vO at h
  split at h
  · next o' ho =>
    split at h
    · next hc =>
      cases h
      exact ⟨ho, by simpa using hc⟩
    · cases h
  · cases h
theorem gF_e {V : VS} {cs : List Nat} {a k : Nat} {v : Value} (h : gF V cs a k = some v) : ∃ o : Nat × List Value, V a = some (.inr o) ∧ o.1 ∈ cs ∧ o.2[k]? = some v := by
  unfold gF at h
  split at h
  · next o ho =>
    obtain ⟨h1, h2⟩ := vO_e ho
    exact ⟨o, h1, h2, h⟩
  · cases h
theorem gI_e {V : VS} {cs : List Nat} {a k : Nat} {x : Int32} (h : gI V cs a k = some x) : gF V cs a k = some (.int x) := by
  unfold gI at h
  cases hg : gF V cs a k with
  | none => rw [hg] at h; cases h
  | some v =>
    rw [hg] at h
    cases v <;> first | (cases h; rfl) | cases h
theorem gJ_e {V : VS} {cs : List Nat} {a k : Nat} {x : Int64} (h : gJ V cs a k = some x) : gF V cs a k = some (.long x) := by
  unfold gJ at h
  cases hg : gF V cs a k with
  | none => rw [hg] at h; cases h
  | some v =>
    rw [hg] at h
    cases v <;> first | (cases h; rfl) | cases h
theorem gR_e {V : VS} {cs : List Nat} {a k : Nat} {x : Option Nat} (h : gR V cs a k = some x) : gF V cs a k = some (va_rf x) := by
  unfold gR at h
  cases hg : gF V cs a k with
  | none => rw [hg] at h; cases h
  | some v =>
    rw [hg] at h
    cases v <;> first | (cases h; rfl) | cases h
theorem pF_e {V V1 : VS} {cs : List Nat} {a k : Nat} {v : Value} (h : pF V cs a k v = some V1) : ∃ o : Nat × List Value, V a = some (.inr o) ∧ o.1 ∈ cs ∧ k < o.2.length ∧ V1 = vU V a (.inr (o.1, o.2.set k v)) := by
  unfold pF at h
  split at h
  · next o ho =>
    obtain ⟨h1, h2⟩ := vO_e ho
    split at h
    · next hl => cases h; exact ⟨o, h1, h2, hl, rfl⟩
    · cases h
  · cases h
theorem aI_e {V : VS} {c : ClassId} {a : Nat} {q : Nat × (Nat → Int32)} (h : aI V c a = some q) : V a = some (.inl (c, q.1, .inl q.2)) := by
  unfold aI at h
  split at h
  · next d n f hv =>
    split at h
    · next hd => cases h; subst hd; exact hv
    · cases h
  · cases h
theorem aJ_e {V : VS} {c : ClassId} {a : Nat} {q : Nat × (Nat → Int64)} (h : aJ V c a = some q) : V a = some (.inl (c, q.1, .inr (.inl q.2))) := by
  unfold aJ at h
  split at h
  · next d n f hv =>
    split at h
    · next hd => cases h; subst hd; exact hv
    · cases h
  · cases h
theorem aR_e {V : VS} {c : ClassId} {a : Nat} {q : Nat × (Nat → Option Nat)} (h : aR V c a = some q) : V a = some (.inl (c, q.1, .inr (.inr (.inr (.inr q.2))))) := by
  unfold aR at h
  split at h
  · next d n f hv =>
    split at h
    · next hd => cases h; subst hd; exact hv
    · cases h
  · cases h
theorem lI_e {V : VS} {c : ClassId} {a : Nat} {i x : Int32} (h : lI V c a i = some x) : ∃ q : Nat × (Nat → Int32), V a = some (.inl (c, q.1, .inl q.2)) ∧ vp_in i q.1 ∧ x = q.2 i.toNatClampNeg := by
  unfold lI at h
  split at h
  · next q hq =>
    split at h
    · next hi => cases h; exact ⟨q, aI_e hq, inb_vp hi, rfl⟩
    · cases h
  · cases h
theorem lJ_e {V : VS} {c : ClassId} {a : Nat} {i : Int32} {x : Int64} (h : lJ V c a i = some x) : ∃ q : Nat × (Nat → Int64), V a = some (.inl (c, q.1, .inr (.inl q.2))) ∧ vp_in i q.1 ∧ x = q.2 i.toNatClampNeg := by
  unfold lJ at h
  split at h
  · next q hq =>
    split at h
    · next hi => cases h; exact ⟨q, aJ_e hq, inb_vp hi, rfl⟩
    · cases h
  · cases h
theorem lR_e {V : VS} {c : ClassId} {a : Nat} {i : Int32} {x : Option Nat} (h : lR V c a i = some x) : ∃ q : Nat × (Nat → Option Nat), V a = some (.inl (c, q.1, .inr (.inr (.inr (.inr q.2))))) ∧ vp_in i q.1 ∧ x = q.2 i.toNatClampNeg := by
  unfold lR at h
  split at h
  · next q hq =>
    split at h
    · next hi => cases h; exact ⟨q, aR_e hq, inb_vp hi, rfl⟩
    · cases h
  · cases h
theorem tI_e {V V1 : VS} {c : ClassId} {a : Nat} {i x : Int32} (h : tI V c a i x = some V1) : ∃ q : Nat × (Nat → Int32), V a = some (.inl (c, q.1, .inl q.2)) ∧ vp_in i q.1 ∧ V1 = vU V a (.inl (c, q.1, .inl (upd q.2 i.toNatClampNeg x))) := by
  unfold tI at h
  split at h
  · next q hq =>
    split at h
    · next hi => cases h; exact ⟨q, aI_e hq, inb_vp hi, rfl⟩
    · cases h
  · cases h
theorem tJ_e {V V1 : VS} {c : ClassId} {a : Nat} {i : Int32} {x : Int64} (h : tJ V c a i x = some V1) : ∃ q : Nat × (Nat → Int64), V a = some (.inl (c, q.1, .inr (.inl q.2))) ∧ vp_in i q.1 ∧ V1 = vU V a (.inl (c, q.1, .inr (.inl (vp_updL q.2 i.toNatClampNeg x)))) := by
  unfold tJ at h
  split at h
  · next q hq =>
    split at h
    · next hi => cases h; exact ⟨q, aJ_e hq, inb_vp hi, rfl⟩
    · cases h
  · cases h
theorem tR_e {V V1 : VS} {c : ClassId} {a : Nat} {i : Int32} {x : Option Nat} (h : tR V c a i x = some V1) : ∃ q : Nat × (Nat → Option Nat), V a = some (.inl (c, q.1, .inr (.inr (.inr (.inr q.2))))) ∧ vp_in i q.1 ∧ V1 = vU V a (.inl (c, q.1, .inr (.inr (.inr (.inr (va_up q.2 i.toNatClampNeg x)))))) := by
  unfold tR at h
  split at h
  · next q hq =>
    split at h
    · next hi => cases h; exact ⟨q, aR_e hq, inb_vp hi, rfl⟩
    · cases h
  · cases h
theorem nA_e {V : VS} {c : ClassId} {a n : Nat} (h : nA V c a = some n) : ∃ x : vp_A, V a = some (.inl (c, x)) ∧ x.1 = n := by
  unfold nA at h
  split at h
  · next d n' f hv =>
    split at h
    · next hd => cases h; subst hd; exact ⟨_, hv, rfl⟩
    · cases h
  · cases h
/-! HEAP MODE: what the tables say all through a run, the contracts' starts and ends, the rows -/
def gnF : List (String × Nat × String × String × String × String) := [("SaidSo", 125, "SaidSo$Case", "things", "Ljava/util/ArrayList;", "SaidSo"),
  ("SaidSo", 115, "SaidSo$Case", "tellers", "Ljava/util/ArrayList;", "SaidSo"),
  ("SaidSo", 173, "SaidSo$Case", "lines", "Ljava/util/ArrayList;", "SaidSo"),
  ("SaidSo", 281, "SaidSo$Case", "pages", "Ljava/util/ArrayList;", "SaidSo"),
  ("SaidSo", 338, "SaidSo$Case", "parts", "[LSaidSo$Part;", "SaidSo"),
  ("SaidSo", 105, "SaidSo$Case", "many", "I", "SaidSo"),
  ("SaidSo", 402, "SaidSo$Case", "knots", "I", "SaidSo"),
  ("SaidSo", 93, "SaidSo$Fault", "kind", "I", "SaidSo"),
  ("SaidSo", 96, "SaidSo$Fault", "place", "I", "SaidSo"),
  ("SaidSo", 141, "SaidSo$Thing", "ways", "I", "SaidSo"),
  ("SaidSo", 144, "SaidSo$Thing", "is", "I", "SaidSo"),
  ("SaidSo", 147, "SaidSo$Thing", "paper", "I", "SaidSo"),
  ("SaidSo", 150, "SaidSo$Thing", "police", "I", "SaidSo"),
  ("SaidSo", 161, "SaidSo$Teller", "age", "I", "SaidSo"),
  ("SaidSo", 164, "SaidSo$Teller", "begins", "I", "SaidSo"),
  ("SaidSo", 167, "SaidSo$Teller", "ends", "I", "SaidSo"),
  ("SaidSo", 170, "SaidSo$Teller", "tape", "I", "SaidSo"),
  ("SaidSo", 286, "SaidSo$Page", "whose", "I", "SaidSo"),
  ("SaidSo", 287, "SaidSo$Page", "what", "I", "SaidSo"),
  ("SaidSo", 300, "SaidSo$Page", "value", "I", "SaidSo"),
  ("SaidSo$Two", 36, "SaidSo", "TROUBLE", "LSaidSo$Trouble;", "SaidSo"),
  ("SaidSo$Reader", 100, "SaidSo$Case", "things", "Ljava/util/ArrayList;", "SaidSo"),
  ("SaidSo$Reader", 108, "SaidSo$Case", "tellers", "Ljava/util/ArrayList;", "SaidSo"),
  ("SaidSo$Reader", 111, "SaidSo$Case", "lines", "Ljava/util/ArrayList;", "SaidSo"),
  ("SaidSo$Reader", 114, "SaidSo$Case", "pages", "Ljava/util/ArrayList;", "SaidSo"),
  ("SaidSo$Reader", 117, "SaidSo$Case", "parts", "[LSaidSo$Part;", "SaidSo"),
  ("SaidSo$Reader", 142, "SaidSo$Case", "many", "I", "SaidSo"),
  ("SaidSo$Reader", 214, "SaidSo$Case", "knots", "I", "SaidSo"),
  ("SaidSo$Reader", 22, "SaidSo", "bytes", "[B", "SaidSo"),
  ("SaidSo$Reader", 60, "SaidSo", "NAMES", "[Ljava/lang/String;", "SaidSo"),
  ("SaidSo$Reader", 200, "SaidSo$Thing", "ways", "I", "SaidSo"),
  ("SaidSo$Reader", 166, "SaidSo$Thing", "paper", "I", "SaidSo"),
  ("SaidSo$Reader", 169, "SaidSo$Thing", "police", "I", "SaidSo"),
  ("SaidSo$Reader", 194, "SaidSo$Teller", "begins", "I", "SaidSo"),
  ("SaidSo$Reader", 181, "SaidSo$Teller", "ends", "I", "SaidSo"),
  ("SaidSo$Reader", 184, "SaidSo$Teller", "tape", "I", "SaidSo"),
  ("SaidSo$Case", 45, "SaidSo$Thing", "name", "I", "SaidSo"),
  ("SaidSo$Case", 51, "SaidSo$Teller", "name", "I", "SaidSo"),
  ("SaidSo$Case", 52, "SaidSo$Teller", "begins", "I", "SaidSo"),
  ("SaidSo$Line", 34, "SaidSo$Case", "things", "Ljava/util/ArrayList;", "SaidSo"),
  ("SaidSo$Line", 16, "SaidSo$Case", "tellers", "Ljava/util/ArrayList;", "SaidSo"),
  ("SaidSo$Word", 17, "SaidSo$Thing", "is", "I", "SaidSo"),
  ("SaidSo$Word", 43, "SaidSo$Teller", "begins", "I", "SaidSo")]
def gnM : List (String × Nat × MethodName × String) := [("SaidSo", 39, ⟨"SaidSo$Reader", "<init>", "(LSaidSo;)V"⟩, "SaidSo"),
  ("SaidSo", 48, ⟨"SaidSo$Case", "<init>", "()V"⟩, "SaidSo"),
  ("SaidSo$Number", 1, ⟨"SaidSo$Part", "<init>", "()V"⟩, "SaidSo"),
  ("SaidSo$Name", 1, ⟨"SaidSo$Part", "<init>", "()V"⟩, "SaidSo"),
  ("SaidSo$Not", 1, ⟨"SaidSo$Part", "<init>", "()V"⟩, "SaidSo"),
  ("SaidSo$Two", 28, ⟨"SaidSo", "sure", "(J)J"⟩, "SaidSo"),
  ("SaidSo$Reader", 92, ⟨"SaidSo$Case", "<init>", "()V"⟩, "SaidSo"),
  ("SaidSo$Reader", 36, ⟨"SaidSo", "in", "(III)Z"⟩, "SaidSo")]
def gnD : List MethodName := [⟨"SaidSo$Part", "of", "([J)J"⟩,
  ⟨"java/lang/Throwable", "<init>", "()V"⟩,
  ⟨"java/lang/Exception", "<init>", "()V"⟩,
  ⟨"java/lang/RuntimeException", "<init>", "()V"⟩]
def gnC : List (String × String) := [("java/lang/IndexOutOfBoundsException", "java/lang/IndexOutOfBoundsException"),
  ("java/util/NoSuchElementException", "java/util/NoSuchElementException"),
  ("SaidSo", "java/lang/Object"),
  ("SaidSo$Ask", "SaidSo$Line"),
  ("SaidSo$Ask", "java/lang/Object"),
  ("SaidSo$Page", "java/lang/Object"),
  ("SaidSo$Part", "java/lang/Object"),
  ("SaidSo$Number", "java/lang/Object"),
  ("SaidSo$Number", "SaidSo$Part"),
  ("SaidSo$Name", "java/lang/Object"),
  ("SaidSo$Name", "SaidSo$Part"),
  ("SaidSo$Not", "java/lang/Object"),
  ("SaidSo$Not", "SaidSo$Part"),
  ("SaidSo$Two", "java/lang/Object"),
  ("SaidSo$Two", "SaidSo$Part"),
  ("SaidSo$Reader", "java/lang/Object"),
  ("SaidSo$Case", "java/lang/Object"),
  ("SaidSoModel", "java/lang/Object"),
  ("SaidSo$Fault", "SaidSo$Fault"),
  ("SaidSo$Fault", "java/lang/Object"),
  ("SaidSo$Thing", "java/lang/Object"),
  ("SaidSo$Teller", "java/lang/Object"),
  ("SaidSo$Word", "SaidSo$Line"),
  ("SaidSo$Word", "java/lang/Object"),
  ("SaidSo$Trouble", "SaidSo$Trouble"),
  ("SaidSo$Trouble", "java/lang/Object"),
  ("[LSaidSo$Part;", "java/lang/Object")]
abbrev fln (q : String × Nat × String × String × String × String) : Cond := .fieldLinkNest q.1 q.2.1 q.2.2.1 q.2.2.2.1 q.2.2.2.2.1 q.2.2.2.2.2
abbrev mln (q : String × Nat × MethodName × String) : Cond := .methodLinkNest q.1 q.2.1 q.2.2.1 q.2.2.2
abbrev cst (q : String × String) : Cond := .castable q.1 q.2
def GN (U : State) : Prop := (∀ q, q ∈ gnF → va_Nw (fln q) U) ∧ (∀ q, q ∈ gnM → va_Nw (mln q) U) ∧ (∀ q, q ∈ gnC → va_Nw (cst q) U) ∧ va_AO "java/lang/Object" U ∧ va_AO "SaidSo$Part" U ∧ (∀ q, q ∈ gnD → va_Nw (.declares q) U) ∧ va_Nc "java/util/NoSuchElementException" "java/lang/IndexOutOfBoundsException" U
def GK (D : va_G) (cA : Nat → ClassId) (U : State) : Prop := va_K D vwCl (tysA cA) U ∧ GN U
theorem GK.warm {D : va_G} {cA : Nat → ClassId} {s U : State} (hW : s.WarmedH U.vm) (h : GK D cA s) : GK D cA U :=
  ⟨va_K.moved hW.alike h.1, fun q hq => va_Nw.warmF hW (h.2.1 q hq), fun q hq => va_Nw.warmM hW (h.2.2.1 q hq), fun q hq => va_Nw.warmC hW (h.2.2.2.1 q hq), va_AO.moved hW.alike h.2.2.2.2.1, va_AO.moved hW.alike h.2.2.2.2.2.1, fun q hq => va_Nw.warmD hW (h.2.2.2.2.2.2.1 q hq), va_Nc.moved hW.alike h.2.2.2.2.2.2.2⟩
theorem GK.call {D : va_G} {cA : Nat → ClassId} {U : State} {g : JFrame} {mk : MethodId} {a : Array Value} (h : GK D cA U) : GK D cA (U.calling g mk a) :=
  ⟨va_K.moved (Vm.Alike.refl U.vm) h.1, fun q hq => va_tabs (u := U) (A := #[]) rfl rfl (h.2.1 q hq), fun q hq => va_tabs (u := U) (A := #[]) rfl rfl (h.2.2.1 q hq), fun q hq => va_tabs (u := U) (A := #[]) rfl rfl (h.2.2.2.1 q hq), va_AO.moved (u := U) (Vm.Alike.refl U.vm) h.2.2.2.2.1, va_AO.moved (u := U) (Vm.Alike.refl U.vm) h.2.2.2.2.2.1, fun q hq => va_tabs (u := U) (A := #[]) rfl rfl (h.2.2.2.2.2.2.1 q hq), va_Nc.moved (u := U) (Vm.Alike.refl U.vm) h.2.2.2.2.2.2.2⟩
/-- the texts of the claim: the reader's words, its signs -/
def nmL : List (List Int32) := [[116, 104, 105, 110, 103], [116, 101, 108, 108, 101, 114], [97, 115, 107], [115, 97, 121], [112, 97, 103, 101], [108, 97, 119], [98, 97, 114], [106, 117, 114, 121], [105, 115], [112, 97, 112, 101, 114], [112, 111, 108, 105, 99, 101], [98, 101, 103, 105, 110, 115], [101, 110, 100, 115], [116, 97, 112, 101], [111, 114], [97, 110, 100], [110, 111, 116], [97, 103, 101], [104, 111, 117, 114, 115], [111, 102, 102], [97, 115, 107, 115], [108, 101, 100], [114, 105, 103, 104, 116], [119, 114, 111, 110, 103], [110, 101, 119], [112, 117, 116], [108, 105, 110, 101, 115]]
def nmLen (w : Nat) : Nat := (nmL.getD w []).length
def nmB (w j : Nat) : Int32 := (nmL.getD w []).getD j 0
def sgL : List Int32 := [59, 40, 41, 43, 45, 42, 47, 60, 61, 62]
def sgB (j : Nat) : Int32 := sgL.getD j 0
/-- constants that nobody writes -/
def GH (A : Nat → Prop) (U : State) (H : Heap) : Prop := vx_Zq Bundle.tN "UNASSIGNED_STACK" Bundle.steD A U H ∧ vx_Zq Bundle.tN "SUPPRESSED_SENTINEL" Bundle.listD A U H ∧ (∃ (tr : Nat) (ce : Cell), va_Z "SaidSo" "TROUBLE" "LSaidSo$Trouble;" (.ref tr) A U H ∧ H[tr]? = some ce ∧ ce.vm = .none ∧ U.vm.findClass "SaidSo$Trouble" = some ce.cls ∧ ¬ A tr) ∧
  SK A U H ∧ (∃ (tn : Nat) (adK : Nat → Nat), va_Z "SaidSo" "NAMES" "[Ljava/lang/String;" (.ref tn) A U H ∧ va_T (.object "java/lang/String") tn 27 (fun j => .ref (adK j)) A U H ∧ ∀ j, j < 27 → SC A U H (adK j) (nmLen j) (nmB j)) ∧ ∃ a : Nat, vk_R "SaidSo$Reader" 52 ";()+-*/<=>" a U ∧ SC A U H a 10 sgB
theorem GH.warm {A : Nat → Prop} {u U : State} {H : Heap} (hW : u.WarmedH U.vm) (h : GH A u H) : GH A U H := by
  obtain ⟨h1, h2, ⟨tr, ce, h3, h4, h5, h6, h7⟩, h8, ⟨tn, adK, h9, h10, h11⟩, a, h12, h13⟩ := h
  have hvm := hW.alike
  exact ⟨h1.moved hvm, h2.moved hvm, ⟨tr, ce, h3.moved hvm, h4, h5, by rw [hvm.findClass]; exact h6, h7⟩, h8.moved hvm, ⟨tn, adK, h9.moved hvm, h10.moved hvm, fun j hj => (h11 j hj).moved hvm⟩, a, h12.warm hW, h13.moved hvm⟩
theorem GH.call {A : Nat → Prop} {U : State} {H : Heap} {g : JFrame} {mk : MethodId} {b : Array Value} (h : GH A U H) : GH A (U.calling g mk b) H := by
  obtain ⟨h1, h2, ⟨tr, ce, h3, h4, h5, h6, h7⟩, h8, ⟨tn, adK, h9, h10, h11⟩, a, h12, h13⟩ := h
  have hvm : U.vm.Alike (U.calling g mk b).vm := Vm.Alike.refl U.vm
  exact ⟨h1.moved hvm, h2.moved hvm, ⟨tr, ce, h3.moved hvm, h4, h5, h6, h7⟩, h8.moved hvm, ⟨tn, adK, h9.moved hvm, h10.moved hvm, fun j hj => (h11 j hj).moved hvm⟩, a, h12.same (u := U) rfl, h13.moved hvm⟩
theorem GH.kept {A : Nat → Prop} {U : State} {H H1 : Heap} (h : GH A U H) (hq : ∀ a : Nat, a < H.size → ¬ A a → H1[a]? = H[a]?) : GH A U H1 := by
  obtain ⟨h1, h2, ⟨tr, ce, h3, h4, h5, h6, h7⟩, h8, ⟨tn, adK, h9, h10, h11⟩, a, h12, h13⟩ := h
  exact ⟨h1.kept hq, h2.kept hq, ⟨tr, ce, h3.kept hq, by rw [hq tr (Array.getElem?_eq_some_iff.mp h4).1 h7]; exact h4, h5, h6, h7⟩, h8.kept hq, ⟨tn, adK, h9.kept hq, h10.kept hq, fun j hj => (h11 j hj).kept hq⟩, a, h12, h13.kept hq⟩
theorem vp_lt {i : Int32} {n : Nat} (h : vp_in i n) : i.toNatClampNeg < n := by
  unfold vp_in at h
  simp only [not_or] at h
  omega
def vPc (av : List Value) (D : va_G) (cA : Nat → ClassId) (A : Nat → Prop) (V : VS) : Array Value → State → Prop := va_Pc av (fun U => HV D A V U.heap ∧ GK D cA U ∧ (∀ q : Nat, U.heap.size ≤ q → A q) ∧ GH A U U.heap)
theorem vPc_blind {av : List Value} {D : va_G} {cA : Nat → ClassId} {A : Nat → Prop} {V : VS} : FrameBlind (vPc av D cA A V) := fun a U g mk q => by
  obtain ⟨q0, qV, qK, qA, qH⟩ := q
  exact ⟨q0, qV, qK.call, qA, qH.call⟩
abbrev vB (D : va_G) (A : Nat → Prop) : VS → State → Prop := fun V' t => HV D A V' t.heap
def exN (k : Nat) : String := if k = 0 then "SaidSo$Fault" else if k = 1 then "SaidSo$Trouble" else if k = 2 then "java/lang/IndexOutOfBoundsException" else "java/util/NoSuchElementException"
abbrev vX (D : va_G) (A : Nat → Prop) (PX : Nat → Nat → VS → Prop) : String → Nat → State → State → Prop := vx_X (S := Nat × VS) (fun q u => PX u.1 q u.2) (fun E u t => E = exN u.1 ∧ HV D A u.2 t.heap) A
section VST
variable {l : Launch} {y : MethodName} {cc : ByteArray} {maxL mc ms : Nat} {rm : Room} {D : va_G} {cA : Nat → ClassId} {A : Nat → Prop} {V : VS} {av : List Value} {own : String}
/-- what a method's walk has all through -/
abbrev VX (p : Program) (m : MethodId) (c : Code) (cc : ByteArray) (nL : Nat) (s : State) (args : Array Value) (own : String) (meth : Method) (y : MethodName) (D : va_G) (cA : Nat → ClassId) (A : Nat → Prop) : Prop :=
  CallFix p m c cc nL s args lw_all own ∧ GK D cA s ∧ GH A s s.heap ∧ (∀ q : Nat, s.heap.size ≤ q → A q) ∧ meth.name = y.name ∧ meth.locks = false ∧ ∀ x ∈ c.exceptionTable.toList, False
theorem vst (hy : plainName y.cls = true) (ho : y.cls = own) (hav : (lg_sl av).length ≤ maxL) {ret : Option FieldType} {Qc : Array Value → State → Outcome → State → Prop} {PX : Nat → Nat → VS → Prop}
    (body : ∀ (p : Program) (e : Env) (s : State) (m : MethodId) (args : Array Value) (below : List Frame) (meth : Method) (c : Code) (ls : Array Slot), VX p m c cc maxL s args own meth y D cA A → meth.sig.returnType = ret → HV D A V s.heap → va_S A s.heap s.heap [] → lv_has ls maxL (lv_args 0 av) →
      W p l e rm s m args below meth c s.heap [] 0 0 (vx_MQ below Qc (vX D A PX) args s mc ms A) (F0 m 0 ls [])) :
    vx_Met l y (ws_ y cc maxL ret) rm (vPc av D cA A V) Qc (vX D A PX) mc ms A := by
  refine vx_ofW (cc := cc) (maxL := maxL) (ret := ret) hy rfl ?_
  intro p e s m args below meth c s₁ B hml htab hv
  obtain ⟨rfl, hV, hK, hA, hG⟩ := hv
  have hts := atoms_spec (ws := ws_ y cc maxL ret) B.pre
  have hts : ∀ w ∈ lw_all, w.before _ s = true := fun w h => hts w (List.mem_cons_of_mem _ h)
  have hown : s.vm.findClass own = some m.cls := by rw [← ho]; exact findClass_of_methodNamed B.named
  have hlocks := B.notSynchronized
  rw [lg_entry_eq]
  exact body p e s m _ below meth c _ ⟨⟨B.exec, B.bytes, hml, hown, hts⟩, hK, hG, hA, (name_of_methodNamed B.named B.method).1, hlocks, htab⟩ B.returns hV va_S.rf (lv_entry av hav)
theorem vstM (hy : plainName y.cls = true) (ho : y.cls = own) (hav : (lg_sl av).length ≤ maxL) {ret : Option FieldType} {Qc : Array Value → State → Outcome → State → Prop}
    (body : ∀ (p : Program) (e : Env) (s : State) (m : MethodId) (args : Array Value) (below : List Frame) (meth : Method) (c : Code) (ls : Array Slot), (CallFix p m c cc maxL s args lw_all own ∧ GK D cA s ∧ GH A s s.heap ∧ (∀ q : Nat, s.heap.size ≤ q → A q) ∧ meth.name = y.name ∧ meth.locks = false) → meth.sig.returnType = ret → HV D A V s.heap → va_S A s.heap s.heap [] → lv_has ls maxL (lv_args 0 av) →
      W p l e rm s m args below meth c s.heap [] 0 0 (MQ below Qc args s mc ms A) (F0 m 0 ls [])) :
    Met l y (ws_ y cc maxL ret) rm (vPc av D cA A V) Qc mc ms A := by
  refine Met.ofW (cc := cc) (maxL := maxL) (ret := ret) hy rfl ?_
  intro p e s m args below meth c s₁ B hml hv
  obtain ⟨rfl, hV, hK, hA, hG⟩ := hv
  have hts := atoms_spec (ws := ws_ y cc maxL ret) B.pre
  have hts : ∀ w ∈ lw_all, w.before _ s = true := fun w h => hts w (List.mem_cons_of_mem _ h)
  have hown : s.vm.findClass own = some m.cls := by rw [← ho]; exact findClass_of_methodNamed B.named
  have hlocks := B.notSynchronized
  rw [lg_entry_eq]
  exact body p e s m _ below meth c _ ⟨⟨B.exec, B.bytes, hml, hown, hts⟩, hK, hG, hA, (name_of_methodNamed B.named B.method).1, hlocks⟩ B.returns hV va_S.rf (lv_entry av hav)
theorem vstH {hh : List (Nat × Nat × Nat × Nat)} (hy : plainName y.cls = true) (ho : y.cls = own) (hav : (lg_sl av).length ≤ maxL) {ret : Option FieldType} {Qc : Array Value → State → Outcome → State → Prop} {PX : Nat → Nat → VS → Prop}
    (body : ∀ (p : Program) (e : Env) (s : State) (m : MethodId) (args : Array Value) (below : List Frame) (meth : Method) (c : Code) (ls : Array Slot), (CallFix p m c cc maxL s args lw_all own ∧ GK D cA s ∧ GH A s s.heap ∧ (∀ q : Nat, s.heap.size ≤ q → A q) ∧ meth.name = y.name ∧ meth.locks = false ∧ c.exceptionTable.toList = tableOf hh) → meth.sig.returnType = ret → HV D A V s.heap → va_S A s.heap s.heap [] → lv_has ls maxL (lv_args 0 av) →
      W p l e rm s m args below meth c s.heap [] 0 0 (vx_MQ below Qc (vX D A PX) args s mc ms A) (F0 m 0 ls [])) :
    vx_Met l y (wsW_ y cc maxL ret hh) rm (vPc av D cA A V) Qc (vX D A PX) mc ms A := by
  refine vx_ofWH (cc := cc) (maxL := maxL) (ret := ret) (hh := hh) hy rfl ?_
  intro p e s m args below meth c s₁ B hml hv
  obtain ⟨rfl, hV, hK, hA, hG⟩ := hv
  have hts0 := atoms_spec (ws := wsW_ y cc maxL ret hh) B.pre
  have htab := vx_table (x := y) B (hts0 _ List.mem_cons_self)
  have hts : ∀ w ∈ lw_all, w.before _ s = true := fun w h => hts0 w (List.mem_cons_of_mem _ h)
  have hown : s.vm.findClass own = some m.cls := by rw [← ho]; exact findClass_of_methodNamed B.named
  have hlocks := B.notSynchronized
  rw [lg_entry_eq]
  exact body p e s m _ below meth c _ ⟨⟨B.exec, B.bytes, hml, hown, hts⟩, hK, hG, hA, (name_of_methodNamed B.named B.method).1, hlocks, htab⟩ B.returns hV va_S.rf (lv_entry av hav)
end VST
/-- a field by its link: where it lies in the objects of the kinds cs -/
def VFd (own : String) (index : Nat) (cs : List Nat) (k : Nat) (ty : FieldType) (fin : Bool) : Prop := ∀ c ∈ cs, ∃ (C : String) (T : u_T) (N : Nat) (ty0 : Nat → FieldType), vwCl[c]? = some (C, T, N) ∧ (∀ w ∈ u_ws C T N, w ∈ lw_all) ∧ k < N ∧ (∀ j, j < N → parseFieldDescriptor (T j).2.2.1 = some (ty0 j)) ∧ (∀ a, a < N → ∀ b, b < N → a ≠ b → (T a).2.1 ≠ (T b).2.1) ∧ parseFieldDescriptor (T k).2.2.1 = some ty ∧ (T k).2.2.2 = fin ∧
  ((∃ ref, Cond.fieldLink own index ref (T k).2.1 (T k).2.2.1 ∈ lw_all ∧ (ref = (T k).1 ∨ Cond.sameField ref (T k).1 (T k).2.1 (T k).2.2.1 ∈ lw_all)) ∨ ∃ host, (own, index, (T k).1, (T k).2.1, (T k).2.2.1, host) ∈ gnF)
section VR
variable {p : Program} {l : Launch} {e : Env} {R : Room} {s : State} {m : MethodId} {args : Array Value} {below : List Frame} {meth : Method} {c : Code} {H : Heap} {locs : List Loc} {cells slots : Nat} {Q : State → Prop}
variable {cc : ByteArray} {pc nL : Nat} {ls : Array Slot} {rest : List Value} {D : va_G} {cA : Nat → ClassId} {A : Nat → Prop} {V : VS} {index : Nat} {H0 : Heap} {own : String} {cs : List Nat} {k : Nat} {ty : FieldType} {fin : Bool} {a : Nat}
theorem vg_v (S : CallFix p m c cc nL s args lw_all own) (hK : GK D cA s) (hV : HV D A V H) (F : VFd own index cs k ty fin) {v : Value} (hg : gF V cs a k = some v) (hdg : decode cc pc = .ok (.getfield index, 3))
    (kk : W p l e R s m args below meth c H locs cells slots Q (F0 m (pc + 3) ls (v :: rest))) : W p l e R s m args below meth c H locs cells slots Q (F0 m pc ls (.ref a :: rest)) := by
  obtain ⟨hx, hb, hml, hown, hts⟩ := S
  obtain ⟨o, h1, h2, h3⟩ := gF_e hg
  obtain ⟨C, T, N, ty0, f1, f2, f3, f4, f5, f6, f7, f8⟩ := F o.1 h2
  obtain ⟨ws, q, hP, hD, hw, hq⟩ := hV.at h1
  rcases f8 with ⟨ref, f8, f9⟩ | ⟨host, f8⟩
  · have hs : ∀ x, s.fieldFound? (T k).1 (T k).2.1 (T k).2.2.1 = some x → s.fieldFound? ref (T k).2.1 (T k).2.2.1 = some x := by
      rcases f9 with f9 | f9
      · rw [f9]; exact fun _ h => h
      · exact fun x hx => u_same (hts _ f9) x hx
    exact va_get (D := D) (ci := o.1) (v := v) (C := C) (T := T) (N := N) hx hb hts f2 hown hK.1 hP q (fs := o.2) hq f1 k f3 (hts _ f8) hs h3 hdg kk
  · exact va_getN (D := D) (ci := o.1) (v := v) (C := C) (T := T) (N := N) (host := host) hx hb hts f2 hown hK.1 hP q (fs := o.2) hq f1 k f3 (va_Nw.use rfl (hK.2.1 _ f8)) (fun _ h => h) h3 hdg kk
theorem vg_i (S : CallFix p m c cc nL s args lw_all own) (hK : GK D cA s) (hV : HV D A V H) (F : VFd own index cs k ty fin) {v : Int32} (hg : gI V cs a k = some v) (hdg : decode cc pc = .ok (.getfield index, 3))
    (kk : W p l e R s m args below meth c H locs cells slots Q (F0 m (pc + 3) ls (.int v :: rest))) : W p l e R s m args below meth c H locs cells slots Q (F0 m pc ls (.ref a :: rest)) := vg_v S hK hV F (gI_e hg) hdg kk
theorem vg_l (S : CallFix p m c cc nL s args lw_all own) (hK : GK D cA s) (hV : HV D A V H) (F : VFd own index cs k ty fin) {v : Int64} (hg : gJ V cs a k = some v) (hdg : decode cc pc = .ok (.getfield index, 3))
    (kk : W p l e R s m args below meth c H locs cells slots Q (F0 m (pc + 3) ls (.long v :: rest))) : W p l e R s m args below meth c H locs cells slots Q (F0 m pc ls (.ref a :: rest)) := vg_v S hK hV F (gJ_e hg) hdg kk
theorem vg_r (S : CallFix p m c cc nL s args lw_all own) (hK : GK D cA s) (hV : HV D A V H) (F : VFd own index cs k ty fin) {v : Option Nat} (hg : gR V cs a k = some v) (hdg : decode cc pc = .ok (.getfield index, 3))
    (kk : W p l e R s m args below meth c H locs cells slots Q (F0 m (pc + 3) ls (va_rf v :: rest))) : W p l e R s m args below meth c H locs cells slots Q (F0 m pc ls (.ref a :: rest)) := vg_v S hK hV F (gR_e hg) hdg kk
theorem vp_v (S : CallFix p m c cc nL s args lw_all own) (hK : GK D cA s) (hV : HV D A V H) (hS : va_S A H0 H locs) (F : VFd own index cs k ty fin) (hfin : fin = false ∨ meth.name = "<init>" ∧ cs.all (fun c => match vwCl[c]? with | some r => decide ((r.2.1 k).1 = own) | none => false) = true ∧ (gnF.any (fun q => decide (q.1 = own) && decide (q.2.1 = index))) = false) {v : Value} (hn : narrow ty v = v) (hfit : fits ty v = true) {V1 : VS} (hp : pF V cs a k v = some V1) (hdg : decode cc pc = .ok (.putfield index, 3))
    (kk : ∀ (H1 : Heap) (locs1 : List Loc), HV D A V1 H1 → va_S A H0 H1 locs1 → W p l e R s m args below meth c H1 locs1 cells slots Q (F0 m (pc + 3) ls rest)) : W p l e R s m args below meth c H locs cells slots Q (F0 m pc ls (v :: .ref a :: rest)) := by
  obtain ⟨hx, hb, hml, hown, hts⟩ := S
  obtain ⟨o, h1, h2, h3, rfl⟩ := pF_e hp
  obtain ⟨C, T, N, ty0, f1, f2, f3, f4, f5, f6, f7, f8⟩ := F o.1 h2
  obtain ⟨ws, q, hP, hD, hw, hq⟩ := hV.at h1
  have go : ∀ (H1 : Heap) (locs1 : List Loc), va_P D vwCl (ws.set q (a, .inr (o.1, o.2.set k v))) H1 → va_D A (ws.set q (a, .inr (o.1, o.2.set k v))) → va_S A H0 H1 locs1 → W p l e R s m args below meth c H1 locs1 cells slots Q (F0 m (pc + 3) ls rest) := fun H1 locs1 hP1 hD1 hS1 => kk H1 locs1 (HV.mk_set hw hq hP1 hD1) hS1
  cases fin with
  | false =>
    rcases f8 with ⟨ref, f8, f9⟩ | ⟨host, f8⟩
    · have hs : ∀ x, s.fieldFound? (T k).1 (T k).2.1 (T k).2.2.1 = some x → s.fieldFound? ref (T k).2.1 (T k).2.2.1 = some x := by
        rcases f9 with f9 | f9
        · rw [f9]; exact fun _ h => h
        · exact fun x hx => u_same (hts _ f9) x hx
      exact va_put (D := D) (ci := o.1) (v := v) (ty := ty) (C := C) (T := T) (N := N) hx hb hts f2 ty0 f4 f5 hown hK.1 hP hD hS q (fs := o.2) hq f1 k f3 (hts _ f8) hs f7 f6 hn hfit h3 hdg go
    · exact va_putN (D := D) (ci := o.1) (v := v) (ty := ty) (C := C) (T := T) (N := N) (host := host) hx hb hts f2 ty0 f4 f5 hown hK.1 hP hD hS q (fs := o.2) hq f1 k f3 (va_Nw.use rfl (hK.2.1 _ f8)) (fun _ h => h) f7 f6 hn hfit h3 hdg go
  | true =>
    rcases hfin with hfin | ⟨hin, hde, hno⟩
    · cases hfin
    · rcases f8 with ⟨ref, f8, f9⟩ | ⟨host, f8⟩
      · have hs : ∀ x, s.fieldFound? (T k).1 (T k).2.1 (T k).2.2.1 = some x → s.fieldFound? ref (T k).2.1 (T k).2.2.1 = some x := by
          rcases f9 with f9 | f9
          · rw [f9]; exact fun _ h => h
          · exact fun x hx => u_same (hts _ f9) x hx
        have hd1 : (T k).1 = own := by
          have h9 := List.all_eq_true.mp hde o.1 h2
          rw [f1] at h9
          exact of_decide_eq_true h9
        exact va_putF (D := D) (ci := o.1) (v := v) (ty := ty) (C := C) (T := T) (N := N) hx hb hts f2 ty0 f4 f5 hown hK.1 hP hD hS q (fs := o.2) hq f1 k f3 (hts _ f8) hs f7 hin hd1 f6 hn hfit h3 hdg go
      · have h8 : (gnF.any (fun q => decide (q.1 = own) && decide (q.2.1 = index))) = true := List.any_eq_true.mpr ⟨_, f8, by simp⟩
        rw [h8] at hno
        cases hno
theorem vl_i (S : CallFix p m c cc nL s args lw_all own) (hK : GK D cA s) (hV : HV D A V H) {i x : Int32} (hg : lI V (cA 0) a i = some x) (hdg : decode cc pc = .ok (.iaload, 1))
    (kk : W p l e R s m args below meth c H locs cells slots Q (F0 m (pc + 1) ls (.int x :: rest))) : W p l e R s m args below meth c H locs cells slots Q (F0 m pc ls (.int i :: .ref a :: rest)) := by
  obtain ⟨hx, hb, hml, hown, hts⟩ := S
  obtain ⟨o, h1, h2, rfl⟩ := lI_e hg
  obtain ⟨ws, q, hP, hD, hw, hq⟩ := hV.at h1
  exact va_iald hx hb hK.1 hP q 0 hq rfl h2 hdg kk
theorem vl_b (S : CallFix p m c cc nL s args lw_all own) (hK : GK D cA s) (hV : HV D A V H) {i x : Int32} (hg : lI V (cA 3) a i = some x) (hdg : decode cc pc = .ok (.baload, 1))
    (kk : W p l e R s m args below meth c H locs cells slots Q (F0 m (pc + 1) ls (.int x :: rest))) : W p l e R s m args below meth c H locs cells slots Q (F0 m pc ls (.int i :: .ref a :: rest)) := by
  obtain ⟨hx, hb, hml, hown, hts⟩ := S
  obtain ⟨o, h1, h2, rfl⟩ := lI_e hg
  obtain ⟨ws, q, hP, hD, hw, hq⟩ := hV.at h1
  exact va_bald hx hb hK.1 hP q 3 hq rfl h2 hdg kk
theorem vl_l (S : CallFix p m c cc nL s args lw_all own) (hK : GK D cA s) (hV : HV D A V H) {i : Int32} {x : Int64} (hg : lJ V (cA 2) a i = some x) (hdg : decode cc pc = .ok (.laload, 1))
    (kk : W p l e R s m args below meth c H locs cells slots Q (F0 m (pc + 1) ls (.long x :: rest))) : W p l e R s m args below meth c H locs cells slots Q (F0 m pc ls (.int i :: .ref a :: rest)) := by
  obtain ⟨hx, hb, hml, hown, hts⟩ := S
  obtain ⟨o, h1, h2, rfl⟩ := lJ_e hg
  obtain ⟨ws, q, hP, hD, hw, hq⟩ := hV.at h1
  exact va_lald hx hb hK.1 hP q 2 hq rfl h2 hdg kk
/-- arrays of references, of the kind j (4: Object, 5: Part) -/
theorem vl_r (S : CallFix p m c cc nL s args lw_all own) (hK : GK D cA s) (hV : HV D A V H) {i : Int32} {x : Option Nat} (j : Nat) {C : String} (hj : (tysA cA)[j]? = some (cA j, .object C)) (hg : lR V (cA j) a i = some x) (hdg : decode cc pc = .ok (.aaload, 1))
    (kk : W p l e R s m args below meth c H locs cells slots Q (F0 m (pc + 1) ls (va_rf x :: rest))) : W p l e R s m args below meth c H locs cells slots Q (F0 m pc ls (.int i :: .ref a :: rest)) := by
  obtain ⟨hx, hb, hml, hown, hts⟩ := S
  obtain ⟨o, h1, h2, rfl⟩ := lR_e hg
  obtain ⟨ws, q, hP, hD, hw, hq⟩ := hV.at h1
  exact va_aldq hx hb hK.1 hP q j hq hj h2 hdg kk
theorem vs_i (S : CallFix p m c cc nL s args lw_all own) (hK : GK D cA s) (hV : HV D A V H) (hS : va_S A H0 H locs) {i x : Int32} {V1 : VS} (hg : tI V (cA 0) a i x = some V1) (hdg : decode cc pc = .ok (.iastore, 1))
    (kk : ∀ (H1 : Heap) (locs1 : List Loc), HV D A V1 H1 → va_S A H0 H1 locs1 → W p l e R s m args below meth c H1 locs1 cells slots Q (F0 m (pc + 1) ls rest)) : W p l e R s m args below meth c H locs cells slots Q (F0 m pc ls (.int x :: .int i :: .ref a :: rest)) := by
  obtain ⟨hx, hb, hml, hown, hts⟩ := S
  obtain ⟨o, h1, h2, rfl⟩ := tI_e hg
  obtain ⟨ws, q, hP, hD, hw, hq⟩ := hV.at h1
  exact va_iast hx hb hK.1 hP hD hS q 0 hq rfl h2 hdg (fun H1 locs1 hP1 hD1 hS1 => kk H1 locs1 (HV.mk_set hw hq hP1 hD1) hS1)
theorem vs_b (S : CallFix p m c cc nL s args lw_all own) (hK : GK D cA s) (hV : HV D A V H) (hS : va_S A H0 H locs) {i x : Int32} {V1 : VS} (hg : tI V (cA 3) a i (vp_nar .byte x) = some V1) (hdg : decode cc pc = .ok (.bastore, 1))
    (kk : ∀ (H1 : Heap) (locs1 : List Loc), HV D A V1 H1 → va_S A H0 H1 locs1 → W p l e R s m args below meth c H1 locs1 cells slots Q (F0 m (pc + 1) ls rest)) : W p l e R s m args below meth c H locs cells slots Q (F0 m pc ls (.int x :: .int i :: .ref a :: rest)) := by
  obtain ⟨hx, hb, hml, hown, hts⟩ := S
  obtain ⟨o, h1, h2, rfl⟩ := tI_e hg
  obtain ⟨ws, q, hP, hD, hw, hq⟩ := hV.at h1
  exact va_bast hx hb hK.1 hP hD hS q 3 hq rfl h2 hdg (fun H1 locs1 hP1 hD1 hS1 => kk H1 locs1 (HV.mk_set hw hq hP1 hD1) hS1)
theorem vs_l (S : CallFix p m c cc nL s args lw_all own) (hK : GK D cA s) (hV : HV D A V H) (hS : va_S A H0 H locs) {i : Int32} {x : Int64} {V1 : VS} (hg : tJ V (cA 2) a i x = some V1) (hdg : decode cc pc = .ok (.lastore, 1))
    (kk : ∀ (H1 : Heap) (locs1 : List Loc), HV D A V1 H1 → va_S A H0 H1 locs1 → W p l e R s m args below meth c H1 locs1 cells slots Q (F0 m (pc + 1) ls rest)) : W p l e R s m args below meth c H locs cells slots Q (F0 m pc ls (.long x :: .int i :: .ref a :: rest)) := by
  obtain ⟨hx, hb, hml, hown, hts⟩ := S
  obtain ⟨o, h1, h2, rfl⟩ := tJ_e hg
  obtain ⟨ws, q, hP, hD, hw, hq⟩ := hV.at h1
  exact va_last hx hb hK.1 hP hD hS q 2 hq rfl h2 hdg (fun H1 locs1 hP1 hD1 hS1 => kk H1 locs1 (HV.mk_set hw hq hP1 hD1) hS1)
/-- a reference put into an array: an object of a kind that may stand there -/
theorem vs_r (S : CallFix p m c cc nL s args lw_all own) (hK : GK D cA s) (hV : HV D A V H) (hS : va_S A H0 H locs) {i : Int32} {b : Nat} (j : Nat) {C : String} (hj : (tysA cA)[j]? = some (cA j, .object C)) {o : Nat × List Value} (ho : vO V cs b = some o) (hcs : ∀ c ∈ cs, ∃ r : vw_C, vwCl[c]? = some r ∧ (r.1, C) ∈ gnC) {V1 : VS} (hg : tR V (cA j) a i (some b) = some V1) (hdg : decode cc pc = .ok (.aastore, 1))
    (kk : ∀ (H1 : Heap) (locs1 : List Loc), HV D A V1 H1 → va_S A H0 H1 locs1 → W p l e R s m args below meth c H1 locs1 cells slots Q (F0 m (pc + 1) ls rest)) : W p l e R s m args below meth c H locs cells slots Q (F0 m pc ls (.ref b :: .int i :: .ref a :: rest)) := by
  obtain ⟨hx, hb, hml, hown, hts⟩ := S
  obtain ⟨q1, h1, h2, rfl⟩ := tR_e hg
  obtain ⟨g1, g2⟩ := vO_e ho
  obtain ⟨r, g3, g4⟩ := hcs _ g2
  obtain ⟨ws, q, hP, hD, hw, hq⟩ := hV.at h1
  obtain ⟨qk, hqk⟩ := List.mem_iff_getElem?.mp ((hw b _).mp g1)
  exact va_astqO hx hb hK.1 hP hD hS q j qk o.1 hq hj (hK.2.2.2.1 _ g4) hqk g3 h2 hdg (fun H1 locs1 hP1 hD1 hS1 => kk H1 locs1 (HV.mk_set hw hq hP1 hD1) hS1)
theorem vs_n (S : CallFix p m c cc nL s args lw_all own) (hK : GK D cA s) (hV : HV D A V H) (hS : va_S A H0 H locs) {i : Int32} (j : Nat) {C : String} (hj : (tysA cA)[j]? = some (cA j, .object C)) {V1 : VS} (hg : tR V (cA j) a i none = some V1) (hdg : decode cc pc = .ok (.aastore, 1))
    (kk : ∀ (H1 : Heap) (locs1 : List Loc), HV D A V1 H1 → va_S A H0 H1 locs1 → W p l e R s m args below meth c H1 locs1 cells slots Q (F0 m (pc + 1) ls rest)) : W p l e R s m args below meth c H locs cells slots Q (F0 m pc ls (.null :: .int i :: .ref a :: rest)) := by
  obtain ⟨hx, hb, hml, hown, hts⟩ := S
  obtain ⟨q1, h1, h2, rfl⟩ := tR_e hg
  obtain ⟨ws, q, hP, hD, hw, hq⟩ := hV.at h1
  exact va_astqN hx hb hK.1 hP hD hS q j hq hj h2 hdg (fun H1 locs1 hP1 hD1 hS1 => kk H1 locs1 (HV.mk_set hw hq hP1 hD1) hS1)
theorem vn_a (S : CallFix p m c cc nL s args lw_all own) (hK : GK D cA s) (hV : HV D A V H) (j : Nat) {ty : FieldType} (hj : (tysA cA)[j]? = some (cA j, ty)) {n : Nat} (hg : nA V (cA j) a = some n) (hdg : decode cc pc = .ok (.arraylength, 1))
    (kk : W p l e R s m args below meth c H locs cells slots Q (F0 m (pc + 1) ls (.int (nI n) :: rest))) : W p l e R s m args below meth c H locs cells slots Q (F0 m pc ls (.ref a :: rest)) := by
  obtain ⟨hx, hb, hml, hown, hts⟩ := S
  obtain ⟨x, h1, rfl⟩ := nA_e hg
  obtain ⟨ws, q, hP, hD, hw, hq⟩ := hV.at h1
  exact va_alen (v := nI x.1) hx hb hK.1 hP q j hq hj rfl hdg kk
/-- a new object -/
theorem vw_new (S : CallFix p m c cc nL s args lw_all own) (hK : GK D cA s) (hV : HV D A V H) (hS : va_S A H0 H locs) (hA : ∀ q : Nat, H0.size ≤ q → A q) {C : String} {T : u_T} {N ci : Nat} (hin : ∀ w ∈ u_ws C T N, w ∈ lw_all) (ty0 : Nat → FieldType) (hty : ∀ k, k < N → parseFieldDescriptor (T k).2.2.1 = some (ty0 k)) (hcl : Cond.classLink own index C ∈ lw_all) (hinst : Cond.instantiable C N ∈ lw_all) (hini : Cond.initialized C ∈ lw_all) (hc : vwCl[ci]? = some (C, T, N)) {fs : List Value} (hfs : ∀ j, j < N → defaultValue (ty0 j) = vp_V fs j)
    (hcells : cells + 1 ≤ R.cells) (hslots : slots + N ≤ R.slots) (hdg : decode cc pc = .ok (.new index, 3))
    (kk : ∀ (q : Nat) (V1 : VS) (H1 : Heap), V q = none → V1 = vU V q (.inr (ci, fs)) → HV D A V1 H1 → va_S A H0 H1 locs → W p l e R s m args below meth c H1 locs (cells + 1) (slots + N) Q (F0 m (pc + 3) ls (.ref q :: rest))) : W p l e R s m args below meth c H locs cells slots Q (F0 m pc ls rest) := by
  obtain ⟨hx, hb, hml, hown, hts⟩ := S
  have hV0 := hV
  obtain ⟨ws, hP, hD, hw⟩ := hV
  refine va_new (ci := ci) (fs := fs) (C := C) (T := T) (N := N) hx hb hts hin ty0 hty hown (hts _ hcl) (hts _ hinst) (hts _ hini) hK.1 hP hD hS hA hc hfs hcells hslots hdg (fun q H1 hP1 hD1 hS1 => ?_)
  have hnone : V q = none := by
    cases h9 : V q with
    | none => rfl
    | some x =>
      obtain ⟨i, hi⟩ := List.mem_iff_getElem?.mp ((hw q x).mp h9)
      have hil := (List.getElem?_eq_some_iff.mp hi).1
      have h1 : (ws ++ [(q, (Sum.inr (ci, fs) : va_E))])[i]? = some (q, x) := by rw [List.getElem?_append_left hil]; exact hi
      have h2 : (ws ++ [(q, (Sum.inr (ci, fs) : va_E))])[ws.length]? = some (q, .inr (ci, fs)) := by simp
      have := hD1.1 i ws.length _ _ h1 h2 rfl
      omega
  exact kk q _ H1 hnone rfl (HV.mk_app hw hnone hP1 hD1) hS1
theorem vw_arr (S : CallFix p m c cc nL s args lw_all own) (hK : GK D cA s) (hV : HV D A V H) (hS : va_S A H0 H locs) (hA : ∀ q : Nat, H0.size ≤ q → A q) (j : Nat) {atype : ArrayType} (harr : Cond.arrayClass (newarray.typeOf atype) ∈ lw_all) {ty : FieldType} (hty : newarray.typeOf atype = ty) (hj : (tysA cA)[j]? = some (cA j, ty)) (hno : ∀ C : String, ty ≠ .object C)
    {n : Int32} {N' : Nat} {a0 : vp_A} (ha : ∀ cA : ClassId, vp_cell cA a0 = arrV cA N' (fun _ => defaultValue ty)) (hn : ¬ n < 0) (hN : n.toNatClampNeg = N') (hbytes : N' * componentBytes ty ≤ 536870912) (hcells : cells + 1 ≤ R.cells) (hslots : slots + N' ≤ R.slots) (hdg : decode cc pc = .ok (.newarray atype, 2))
    (kk : ∀ (q : Nat) (V1 : VS) (H1 : Heap), V q = none → V1 = vU V q (.inl (cA j, a0)) → HV D A V1 H1 → va_S A H0 H1 locs → W p l e R s m args below meth c H1 locs (cells + 1) (slots + N') Q (F0 m (pc + 2) ls (.ref q :: rest))) : W p l e R s m args below meth c H locs cells slots Q (F0 m pc ls (.int n :: rest)) := by
  obtain ⟨hx, hb, hml, hown, hts⟩ := S
  obtain ⟨ws, hP, hD, hw⟩ := hV
  refine va_newa (atype := atype) (ty := ty) hx hb (hts _ harr) hty hK.1 hP hD hS hA ha hn hN hbytes hcells hslots hdg (fun q cB H1 hK1 hP1 hD1 hS1 => ?_)
  have hcB : cB = cA j := by
    have g1 := (hK1.2 (tysA cA).length (cB, ty) (by simp)).2
    have g2 := (hK.1.2 j (cA j, ty) hj).2
    cases ty <;> first | (exact Option.some.inj (g1.symm.trans g2)) | exact absurd rfl (hno _)
  subst hcB
  have hnone : V q = none := by
    cases h9 : V q with
    | none => rfl
    | some x =>
      obtain ⟨i, hi⟩ := List.mem_iff_getElem?.mp ((hw q x).mp h9)
      have hil := (List.getElem?_eq_some_iff.mp hi).1
      have h1 : (ws ++ [(q, (Sum.inl (cA j, a0) : va_E))])[i]? = some (q, x) := by rw [List.getElem?_append_left hil]; exact hi
      have h2 : (ws ++ [(q, (Sum.inl (cA j, a0) : va_E))])[ws.length]? = some (q, .inl (cA j, a0)) := by simp
      have := hD1.1 i ws.length _ _ h1 h2 rfl
      omega
  exact kk q _ H1 hnone rfl (HV.mk_app hw hnone hP1 hD1) hS1
theorem vw_arq (S : CallFix p m c cc nL s args lw_all own) (hK : GK D cA s) (hV : HV D A V H) (hS : va_S A H0 H locs) (hA : ∀ q : Nat, H0.size ≤ q → A q) (j : Nat) {C : String} (hj : (tysA cA)[j]? = some (cA j, .object C)) (hclink : Cond.classLink own index C ∈ lw_all) (hover : va_AO C s)
    {n : Int32} {N' : Nat} (hn : ¬ n < 0) (hN : n.toNatClampNeg = N') (hbytes : N' * 4 ≤ 536870912) (hcells : cells + 1 ≤ R.cells) (hslots : slots + N' ≤ R.slots) (hdg : decode cc pc = .ok (.anewarray index, 3))
    (kk : ∀ (q : Nat) (V1 : VS) (H1 : Heap), V q = none → V1 = vU V q (.inl (cA j, N', .inr (.inr (.inr (.inr (fun _ => none)))))) → HV D A V1 H1 → va_S A H0 H1 locs → W p l e R s m args below meth c H1 locs (cells + 1) (slots + N') Q (F0 m (pc + 3) ls (.ref q :: rest))) : W p l e R s m args below meth c H locs cells slots Q (F0 m pc ls (.int n :: rest)) := by
  obtain ⟨hx, hb, hml, hown, hts⟩ := S
  obtain ⟨ws, hP, hD, hw⟩ := hV
  refine va_newq hx hb hown (hts _ hclink) hover hK.1 hP hD hS hA hn hN hbytes hcells hslots hdg (fun q cB H1 hK1 hP1 hD1 hS1 => ?_)
  have hcB : cB = cA j := by
    obtain ⟨_, _, _, _, _, g1⟩ := (hK1.2 (tysA cA).length (cB, .object C) (by simp)).2
    obtain ⟨_, _, _, _, _, g2⟩ := (hK.1.2 j (cA j, .object C) hj).2
    exact Option.some.inj (g1.symm.trans g2)
  subst hcB
  have hnone : V q = none := by
    cases h9 : V q with
    | none => rfl
    | some x =>
      obtain ⟨i, hi⟩ := List.mem_iff_getElem?.mp ((hw q x).mp h9)
      have hil := (List.getElem?_eq_some_iff.mp hi).1
      have h1 : (ws ++ [(q, (Sum.inl (cA j, N', Sum.inr (Sum.inr (Sum.inr (Sum.inr (fun _ => none))))) : va_E))])[i]? = some (q, x) := by rw [List.getElem?_append_left hil]; exact hi
      have h2 : (ws ++ [(q, (Sum.inl (cA j, N', Sum.inr (Sum.inr (Sum.inr (Sum.inr (fun _ => none))))) : va_E))])[ws.length]? = some (q, Sum.inl (cA j, N', Sum.inr (Sum.inr (Sum.inr (Sum.inr (fun _ => none)))))) := by simp
      have := hD1.1 i ws.length _ _ h1 h2 rfl
      omega
  exact kk q _ H1 hnone rfl (HV.mk_app hw hnone hP1 hD1) hS1
/-- an object's cell, for the receiver of a call and for a cast -/
theorem v_cell (hK : GK D cA s) (hV : HV D A V H) {o : Nat × List Value} (ho : vO V cs a = some o) {r : vw_C} (hr : vwCl[o.1]? = some r) : ∃ cell : Cell, H[a]? = some cell ∧ cell.vm.isStatics = false ∧ s.vm.findClass r.1 = some cell.cls := by
  obtain ⟨h1, -⟩ := vO_e ho
  obtain ⟨ws, q, hP, hD, hw, hq⟩ := hV.at h1
  exact va_recv hK.1 hP hr hq
theorem v_cast (S : CallFix p m c cc nL s args lw_all own) (hK : GK D cA s) (hV : HV D A V H) {o : Nat × List Value} (ho : vO V cs a = some o) {nm : String} (hcs : ∀ c ∈ cs, ∃ r : vw_C, vwCl[c]? = some r ∧ (r.1 = nm ∨ (r.1, nm) ∈ gnC)) (hlink : Cond.classLink own index nm ∈ lw_all) (hdg : decode cc pc = .ok (.checkcast index, 3))
    (kk : W p l e R s m args below meth c H locs cells slots Q (F0 m (pc + 3) ls (.ref a :: rest))) : W p l e R s m args below meth c H locs cells slots Q (F0 m pc ls (.ref a :: rest)) := by
  obtain ⟨hx, hb, hml, hown, hts⟩ := S
  obtain ⟨h1, h2⟩ := vO_e ho
  obtain ⟨r, h3, h4⟩ := hcs _ h2
  have hc := v_cell hK hV ho h3
  rcases h4 with h4 | h4
  · subst h4
    exact va_castS hx hb hown (hts _ hlink) (hK.1.1 _ _ h3).2 hc hdg kk
  · exact va_castY hx hb hown (hts _ hlink) (hK.2.2.2.1 _ h4) hc hdg kk
/-- a local that may be null -/
theorem lv_aload_nQ (hexec : p.tables.exec = Jvm.exec) (hb : c.code = cc) {k : Fin 4} {i : Nat} {r : Option Nat} (hdg : decode cc pc = .ok (.aload_n k, 1)) (hi : (k : Nat) = i) (hl : ls[i]? = some (.val (va_rf r)))
    (kk : W p l e R s m args below meth c H locs cells slots Q (F0 m (pc + 1) ls (va_rf r :: rest))) : W p l e R s m args below meth c H locs cells slots Q (F0 m pc ls rest) := by
  cases r with
  | none => exact lv_aload_nN hexec hb hdg hi hl kk
  | some x => exact lv_aload_n hexec hb hdg hi hl kk
theorem lv_aloadQ (hexec : p.tables.exec = Jvm.exec) (hb : c.code = cc) {i : Nat} {r : Option Nat} (hdg : decode cc pc = .ok (.aload i, 2)) (hl : ls[i]? = some (.val (va_rf r)))
    (kk : W p l e R s m args below meth c H locs cells slots Q (F0 m (pc + 2) ls (va_rf r :: rest))) : W p l e R s m args below meth c H locs cells slots Q (F0 m pc ls rest) := by
  cases r with
  | none => exact lv_aloadN hexec hb hdg hl kk
  | some x => exact lv_aload hexec hb hdg hl kk
theorem lv_astore_nQ (hexec : p.tables.exec = Jvm.exec) (hb : c.code = cc) {k : Fin 4} {i nL : Nat} {r : Option Nat} {lv lv' : List (Nat × Value)} (hdg : decode cc pc = .ok (.astore_n k, 1)) (hi : (k : Nat) = i) (h : lv_has ls nL lv) (hn : i < nL) (hl : (i, va_rf r) :: lv.filter (fun q => !(q.1 == i) && !(q.1 + 1 == i && q.2.category == 2)) = lv')
    (kk : ∀ ls', lv_has ls' nL lv' → W p l e R s m args below meth c H locs cells slots Q (F0 m (pc + 1) ls' rest)) : W p l e R s m args below meth c H locs cells slots Q (F0 m pc ls (va_rf r :: rest)) := by
  cases r with
  | none => exact lv_astore_nN hexec hb hdg hi h hn hl kk
  | some x => exact lv_astore_n hexec hb hdg hi h hn hl kk
theorem lv_astoreQ (hexec : p.tables.exec = Jvm.exec) (hb : c.code = cc) {i nL : Nat} {r : Option Nat} {lv lv' : List (Nat × Value)} (hdg : decode cc pc = .ok (.astore i, 2)) (h : lv_has ls nL lv) (hn : i < nL) (hl : (i, va_rf r) :: lv.filter (fun q => !(q.1 == i) && !(q.1 + 1 == i && q.2.category == 2)) = lv')
    (kk : ∀ ls', lv_has ls' nL lv' → W p l e R s m args below meth c H locs cells slots Q (F0 m (pc + 2) ls' rest)) : W p l e R s m args below meth c H locs cells slots Q (F0 m pc ls (va_rf r :: rest)) := by
  cases r with
  | none => exact lv_astoreN hexec hb hdg h hn hl kk
  | some x => exact lv_astore hexec hb hdg h hn hl kk
theorem va_rf_nar {r : Option Nat} {C : String} : narrow (.object C) (va_rf r) = va_rf r ∧ fits (.object C) (va_rf r) = true := by cases r <;> exact ⟨rfl, rfl⟩
theorem va_rf_narA {r : Option Nat} {t : FieldType} : narrow (.array t) (va_rf r) = va_rf r ∧ fits (.array t) (va_rf r) = true := by cases r <;> exact ⟨rfl, rfl⟩
end VR
