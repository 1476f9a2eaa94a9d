/-! HEAP MODE: calls and ends -/
section VRN
variable {p : Program} {l : Launch} {e : Env} {R : Room} {s : State} {m : MethodId} {args : Array Value} {below : List Frame} {meth : Method} {c : Code} {H : Heap} {locs : List Loc} {cells slots : Nat} {Q : State → Prop}
variable {cc : ByteArray} {pc nL : Nat} {ls : Array Slot} {rest As : List Value} {D : va_G} {cA : Nat → ClassId} {A : Nat → Prop} {V : VS} {index maxL n mc ms : Nat} {y : MethodName} {bytes : ByteArray} {rm : Room} {own : String} {ret : Option FieldType} {Qc : Array Value → State → Outcome → State → Prop} {XC : String → Nat → State → State → Prop} {b : Nat} {o : Nat × List Value} {ci : Nat} {r : vw_C}
theorem v_pre (hK : GK D cA s) (hG : GH A s s.heap) (hA : ∀ q : Nat, s.heap.size ≤ q → A q) (hV : HV D A V H) (hS : va_S A s.heap H locs) (av : List Value) : ∀ U : State, U.heap = H → s.WarmedH U.vm → vPc av D cA A V av.toArray U := by
  intro U hU hW
  refine ⟨rfl, by rw [hU]; exact hV, hK.warm hW, fun q hq => hA q (Nat.le_trans hS.1 (by rw [← hU]; exact hq)), ?_⟩
  rw [hU]
  exact (hG.warm hW).kept hS.2.1
theorem vr_V (S : CallFix p m c cc nL s args lw_all own) (hK : GK D cA s) (hG : GH A s s.heap) (hA : ∀ q : Nat, s.heap.size ≤ q → A q) (hV : HV D A V H) (hS : va_S A s.heap H locs) (ho : vO V [ci] b = some o) (hr : vwCl[ci]? = some r)
    (hM : Met l y (ws_ y bytes maxL ret) rm (vPc (.ref b :: As) D cA A V) Qc mc ms A) (cw : CallW R s args own r.1 index y bytes maxL ret (ws_ y bytes maxL ret) rm mc ms n)
    (hn : As.length = n) (hsz : ls.size = nL) (hroom : (rest.map fun v => v.category).sum ≤ 8) (hdg : decode cc pc = .ok (.invokevirtual index, 3)) (hc : cells + mc ≤ R.cells ∧ slots + ms ≤ R.slots) :
    va_Run p l e R s m args below meth c H locs cells slots mc ms (F0 m pc ls (As.reverse ++ .ref b :: rest)) rest (Qc (Value.ref b :: As).toArray) A := by
  have h1 : o.1 = ci := List.mem_singleton.mp (vO_e ho).2
  exact va_runV (g := F0 m pc ls (As.reverse ++ .ref b :: rest)) S hM cw ⟨vPc_blind, v_cell hK hV ho (by rw [h1]; exact hr), v_pre hK hG hA hV hS _⟩ rfl hn hsz rfl (lv_room hroom) hdg hc
theorem vr_VX (S : CallFix p m c cc nL s args lw_all own) (hK : GK D cA s) (hG : GH A s s.heap) (hA : ∀ q : Nat, s.heap.size ≤ q → A q) (hV : HV D A V H) (hS : va_S A s.heap H locs) (ho : vO V [ci] b = some o) (hr : vwCl[ci]? = some r)
    (hM : vx_Met l y (ws_ y bytes maxL ret) rm (vPc (.ref b :: As) D cA A V) Qc XC mc ms A) (cw : CallW R s args own r.1 index y bytes maxL ret (ws_ y bytes maxL ret) rm mc ms n)
    (hn : As.length = n) (hsz : ls.size = nL) (hroom : (rest.map fun v => v.category).sum ≤ 8) (hdg : decode cc pc = .ok (.invokevirtual index, 3)) (hc : cells + mc ≤ R.cells ∧ slots + ms ≤ R.slots) :
    vx_Run p l e R s m args below meth c H locs cells slots mc ms (F0 m pc ls (As.reverse ++ .ref b :: rest)) rest (Qc (Value.ref b :: As).toArray) XC A := by
  have h1 : o.1 = ci := List.mem_singleton.mp (vO_e ho).2
  exact vx_runV (g := F0 m pc ls (As.reverse ++ .ref b :: rest)) S hM cw ⟨vPc_blind, v_cell hK hV ho (by rw [h1]; exact hr), v_pre hK hG hA hV hS _⟩ rfl hn hsz rfl (lv_room hroom) hdg hc
theorem vr_VH {hh : List (Nat × Nat × Nat × Nat)} (S : CallFix p m c cc nL s args lw_all own) (hK : GK D cA s) (hG : GH A s s.heap) (hA : ∀ q : Nat, s.heap.size ≤ q → A q) (hV : HV D A V H) (hS : va_S A s.heap H locs) (ho : vO V [ci] b = some o) (hr : vwCl[ci]? = some r)
    (hM : vx_Met l y (wsW_ y bytes maxL ret hh) rm (vPc (.ref b :: As) D cA A V) Qc XC mc ms A) (cw : vx_CVW R s args own r.1 index y bytes maxL ret hh (wsW_ y bytes maxL ret hh) rm mc ms n)
    (hn : As.length = n) (hsz : ls.size = nL) (hroom : (rest.map fun v => v.category).sum ≤ 8) (hdg : decode cc pc = .ok (.invokevirtual index, 3)) (hc : cells + mc ≤ R.cells ∧ slots + ms ≤ R.slots) :
    vx_Run p l e R s m args below meth c H locs cells slots mc ms (F0 m pc ls (As.reverse ++ .ref b :: rest)) rest (Qc (Value.ref b :: As).toArray) XC A := by
  have h1 : o.1 = ci := List.mem_singleton.mp (vO_e ho).2
  exact vx_runVX (g := F0 m pc ls (As.reverse ++ .ref b :: rest)) S hM cw ⟨vPc_blind, v_cell hK hV ho (by rw [h1]; exact hr), v_pre hK hG hA hV hS _⟩ rfl hn hsz rfl (lv_room hroom) hdg hc
theorem vr_U {x : MethodName} {owner : String} (S : CallFix p m c cc nL s args lw_all own) (hK : GK D cA s) (hG : GH A s s.heap) (hA : ∀ q : Nat, s.heap.size ≤ q → A q) (hV : HV D A V H) (hS : va_S A s.heap H locs) {cs : List Nat} (ho : vO V cs b = some o) (hoc : o.1 = ci) (hr : vwCl[ci]? = some r)
    (hM : Met l y (ws_ y bytes maxL ret) rm (vPc (.ref b :: As) D cA A V) Qc mc ms A) (cw : va_CU R s args own r.1 owner index x y bytes maxL ret (ws_ y bytes maxL ret) rm mc ms n)
    (hn : As.length = n) (hsz : ls.size = nL) (hroom : (rest.map fun v => v.category).sum ≤ 8) (hdg : decode cc pc = .ok (.invokevirtual index, 3)) (hc : cells + mc ≤ R.cells ∧ slots + ms ≤ R.slots) :
    va_Run p l e R s m args below meth c H locs cells slots mc ms (F0 m pc ls (As.reverse ++ .ref b :: rest)) rest (Qc (Value.ref b :: As).toArray) A :=
  va_runU (g := F0 m pc ls (As.reverse ++ .ref b :: rest)) S hM cw ⟨vPc_blind, v_cell hK hV ho (by rw [hoc]; exact hr), v_pre hK hG hA hV hS _⟩ rfl hn hsz rfl (lv_room hroom) hdg hc
theorem vr_UX {x : MethodName} {owner : String} (S : CallFix p m c cc nL s args lw_all own) (hK : GK D cA s) (hG : GH A s s.heap) (hA : ∀ q : Nat, s.heap.size ≤ q → A q) (hV : HV D A V H) (hS : va_S A s.heap H locs) {cs : List Nat} (ho : vO V cs b = some o) (hoc : o.1 = ci) (hr : vwCl[ci]? = some r)
    (hM : vx_Met l y (ws_ y bytes maxL ret) rm (vPc (.ref b :: As) D cA A V) Qc XC mc ms A) (cw : va_CU R s args own r.1 owner index x y bytes maxL ret (ws_ y bytes maxL ret) rm mc ms n)
    (hn : As.length = n) (hsz : ls.size = nL) (hroom : (rest.map fun v => v.category).sum ≤ 8) (hdg : decode cc pc = .ok (.invokevirtual index, 3)) (hc : cells + mc ≤ R.cells ∧ slots + ms ≤ R.slots) :
    vx_Run p l e R s m args below meth c H locs cells slots mc ms (F0 m pc ls (As.reverse ++ .ref b :: rest)) rest (Qc (Value.ref b :: As).toArray) XC A :=
  vx_runU (g := F0 m pc ls (As.reverse ++ .ref b :: rest)) S hM cw ⟨vPc_blind, v_cell hK hV ho (by rw [hoc]; exact hr), v_pre hK hG hA hV hS _⟩ rfl hn hsz rfl (lv_room hroom) hdg hc
theorem vr_I (S : CallFix p m c cc nL s args lw_all own) (hK : GK D cA s) (hG : GH A s s.heap) (hA : ∀ q : Nat, s.heap.size ≤ q → A q) (hV : HV D A V H) (hS : va_S A s.heap H locs)
    (hM : Met l y (ws_ y bytes maxL none) rm (vPc (.ref b :: As) D cA A V) Qc mc ms A) (cw : CallB R s args own index y bytes maxL none (ws_ y bytes maxL none) rm mc ms n ∧ y.name = "<init>" ∧ (Cond.instanceMethod y).before args s = true)
    (hn : As.length = n) (hsz : ls.size = nL) (hroom : (rest.map fun v => v.category).sum ≤ 8) (hdg : decode cc pc = .ok (.invokespecial index, 3)) (hc : cells + mc ≤ R.cells ∧ slots + ms ≤ R.slots) :
    va_Run p l e R s m args below meth c H locs cells slots mc ms (F0 m pc ls (As.reverse ++ .ref b :: rest)) rest (Qc (Value.ref b :: As).toArray) A :=
  va_runI (g := F0 m pc ls (As.reverse ++ .ref b :: rest)) S hM cw ⟨vPc_blind, v_pre hK hG hA hV hS _⟩ rfl hn hsz rfl (lv_room hroom) hdg hc
theorem vr_IN {host : String} (S : CallFix p m c cc nL s args lw_all own) (hK : GK D cA s) (hG : GH A s s.heap) (hA : ∀ q : Nat, s.heap.size ≤ q → A q) (hV : HV D A V H) (hS : va_S A s.heap H locs)
    (hM : Met l y (ws_ y bytes maxL none) rm (vPc (.ref b :: As) D cA A V) Qc mc ms A) (cw : va_CN R s args own index y host bytes maxL none (ws_ y bytes maxL none) rm mc ms n ∧ y.name = "<init>" ∧ (Cond.instanceMethod y).before args s = true)
    (hn : As.length = n) (hsz : ls.size = nL) (hroom : (rest.map fun v => v.category).sum ≤ 8) (hdg : decode cc pc = .ok (.invokespecial index, 3)) (hc : cells + mc ≤ R.cells ∧ slots + ms ≤ R.slots) :
    va_Run p l e R s m args below meth c H locs cells slots mc ms (F0 m pc ls (As.reverse ++ .ref b :: rest)) rest (Qc (Value.ref b :: As).toArray) A :=
  va_runIN (g := F0 m pc ls (As.reverse ++ .ref b :: rest)) S hM cw ⟨vPc_blind, v_pre hK hG hA hV hS _⟩ rfl hn hsz rfl (lv_room hroom) hdg hc
theorem vr_S (S : CallFix p m c cc nL s args lw_all own) (hK : GK D cA s) (hG : GH A s s.heap) (hA : ∀ q : Nat, s.heap.size ≤ q → A q) (hV : HV D A V H) (hS : va_S A s.heap H locs)
    (hM : Met l y (ws_ y bytes maxL ret) rm (vPc As D cA A V) Qc mc ms A) (cw : CallB R s args own index y bytes maxL ret (ws_ y bytes maxL ret) rm mc ms n ∧ (Cond.static y).before args s = true)
    (hn : As.length = n) (hsz : ls.size = nL) (hroom : (rest.map fun v => v.category).sum ≤ 8) (hdg : decode cc pc = .ok (.invokestatic index, 3)) (hc : cells + mc ≤ R.cells ∧ slots + ms ≤ R.slots) :
    va_Run p l e R s m args below meth c H locs cells slots mc ms (F0 m pc ls (As.reverse ++ rest)) rest (Qc As.toArray) A :=
  va_runS (g := F0 m pc ls (As.reverse ++ rest)) S hM cw ⟨vPc_blind, v_pre hK hG hA hV hS _⟩ rfl hn hsz rfl (lv_room hroom) hdg hc
theorem vr_SX (S : CallFix p m c cc nL s args lw_all own) (hK : GK D cA s) (hG : GH A s s.heap) (hA : ∀ q : Nat, s.heap.size ≤ q → A q) (hV : HV D A V H) (hS : va_S A s.heap H locs)
    (hM : vx_Met l y (ws_ y bytes maxL ret) rm (vPc As D cA A V) Qc XC mc ms A) (cw : CallB R s args own index y bytes maxL ret (ws_ y bytes maxL ret) rm mc ms n ∧ (Cond.static y).before args s = true)
    (hn : As.length = n) (hsz : ls.size = nL) (hroom : (rest.map fun v => v.category).sum ≤ 8) (hdg : decode cc pc = .ok (.invokestatic index, 3)) (hc : cells + mc ≤ R.cells ∧ slots + ms ≤ R.slots) :
    vx_Run p l e R s m args below meth c H locs cells slots mc ms (F0 m pc ls (As.reverse ++ rest)) rest (Qc As.toArray) XC A :=
  vx_runS (g := F0 m pc ls (As.reverse ++ rest)) S hM cw ⟨vPc_blind, v_pre hK hG hA hV hS _⟩ rfl hn hsz rfl (lv_room hroom) hdg hc
theorem vr_SNX {host : String} (S : CallFix p m c cc nL s args lw_all own) (hK : GK D cA s) (hG : GH A s s.heap) (hA : ∀ q : Nat, s.heap.size ≤ q → A q) (hV : HV D A V H) (hS : va_S A s.heap H locs)
    (hM : vx_Met l y (ws_ y bytes maxL ret) rm (vPc As D cA A V) Qc XC mc ms A) (cw : va_CN R s args own index y host bytes maxL ret (ws_ y bytes maxL ret) rm mc ms n ∧ (Cond.static y).before args s = true ∧ True)
    (hn : As.length = n) (hsz : ls.size = nL) (hroom : (rest.map fun v => v.category).sum ≤ 8) (hdg : decode cc pc = .ok (.invokestatic index, 3)) (hc : cells + mc ≤ R.cells ∧ slots + ms ≤ R.slots) :
    vx_Run p l e R s m args below meth c H locs cells slots mc ms (F0 m pc ls (As.reverse ++ rest)) rest (Qc As.toArray) XC A :=
  vx_runSN (g := F0 m pc ls (As.reverse ++ rest)) S hM cw ⟨vPc_blind, v_pre hK hG hA hV hS _⟩ rfl hn hsz rfl (lv_room hroom) hdg hc
/-- a static method of numbers of a nest mate's -/
theorem scN_i {ty : FieldType} {host : String} {Post : Int32 → Prop} (S : CallFix p m c cc nL s args lw_all own) (hM : Met l y (ws_ y bytes maxL (some ty)) rm (va_Pc As (fun _ => True)) (vp_Si Post) 0 0 (fun _ => False))
    (cw : va_CN R s args own index y host bytes maxL (some ty) (ws_ y bytes maxL (some ty)) rm 0 0 n ∧ (Cond.static y).before args s = true ∧ True) {st0 : List Value} (hn : As.length = n) (hst : st0 = As.reverse ++ rest) (hsz : ls.size = nL) (hroom : (rest.map fun v => v.category).sum ≤ 8) (hdg : decode cc pc = .ok (.invokestatic index, 3)) (hc : cells ≤ R.cells ∧ slots ≤ R.slots)
    (kk : ∀ r : Int32, Post r → W p l e R s m args below meth c H locs cells slots Q (F0 m (pc + 3) ls (.int r :: rest))) : W p l e R s m args below meth c H locs cells slots Q (F0 m pc ls st0) := by
  subst hst
  have hr : va_Run p l e R s m args below meth c H locs cells slots 0 0 (F0 m pc ls (As.reverse ++ rest)) rest (vp_Si Post As.toArray) (fun _ => False) := va_runSN (g := F0 m pc ls (As.reverse ++ rest)) S hM cw ⟨sPc_blind, fun U hU hW => ⟨rfl, trivial⟩⟩ rfl hn hsz rfl (lv_room hroom) hdg hc
  intro T hT X
  obtain ⟨v, st₀, t, T', L, h0, X', hL, e1, e2, ⟨r, hv, hp, hh⟩, st⟩ := hr T hT X
  cases hv
  have hL0 := no_locs hL
  subst hL0
  obtain ⟨t2, a1, b1⟩ := kk r hp T' (by rw [e1, hh, h0]) (by simpa using X')
  exact ⟨t2, st t2 a1, b1⟩
end VRN
section VK
variable {p : Program} {l : Launch} {e : Env} {R : Room} {s : State} {m : MethodId} {args : Array Value} {below : List Frame} {meth : Method} {c : Code} {H : Heap} {locs : List Loc} {cells slots : Nat} {Q : State → Prop}
variable {pc : Nat} {ls : Array Slot} {rest st0 : List Value} {D : va_G} {A : Nat → Prop} {mc ms : Nat} {a : Array Value} {MC MS : Nat} {Qc : Array Value → State → Outcome → State → Prop} {PX : Nat → Nat → VS → Prop}
theorem vk_i {Post : Int32 → VS → Prop} (hr : va_Run p l e R s m args below meth c H locs cells slots mc ms (F0 m pc ls st0) rest (va_Qi Post (vB D A) A a) A) (hS : va_S A s.heap H locs)
    (kk : ∀ (r : Int32) (V1 : VS) (H1 : Heap) (locs1 : List Loc), Post r V1 → HV D A V1 H1 → va_S A s.heap H1 locs1 → W p l e R s m args below meth c H1 locs1 (cells + mc) (slots + ms) Q (F0 m (pc + 3) ls (.int r :: rest))) : W p l e R s m args below meth c H locs cells slots Q (F0 m pc ls st0) :=
  va_calli hr hS (fun q _ h => h) (fun q h => h) (fun r V1 t H1 locs1 ht _ hp hB _ _ hS1 => kk r V1 H1 locs1 hp (by rw [← ht]; exact hB) hS1)
theorem vk_l {Post : Int64 → VS → Prop} (hr : va_Run p l e R s m args below meth c H locs cells slots mc ms (F0 m pc ls st0) rest (va_Ql Post (vB D A) A a) A) (hS : va_S A s.heap H locs)
    (kk : ∀ (r : Int64) (V1 : VS) (H1 : Heap) (locs1 : List Loc), Post r V1 → HV D A V1 H1 → va_S A s.heap H1 locs1 → W p l e R s m args below meth c H1 locs1 (cells + mc) (slots + ms) Q (F0 m (pc + 3) ls (.long r :: rest))) : W p l e R s m args below meth c H locs cells slots Q (F0 m pc ls st0) :=
  va_calll hr hS (fun q _ h => h) (fun q h => h) (fun r V1 t H1 locs1 ht _ hp hB _ _ hS1 => kk r V1 H1 locs1 hp (by rw [← ht]; exact hB) hS1)
theorem vk_q {Post : Option Nat → VS → Prop} (hr : va_Run p l e R s m args below meth c H locs cells slots mc ms (F0 m pc ls st0) rest (va_Qq Post (vB D A) A a) A) (hS : va_S A s.heap H locs)
    (kk : ∀ (r : Option Nat) (V1 : VS) (H1 : Heap) (locs1 : List Loc), Post r V1 → HV D A V1 H1 → va_S A s.heap H1 locs1 → W p l e R s m args below meth c H1 locs1 (cells + mc) (slots + ms) Q (F0 m (pc + 3) ls (va_rf r :: rest))) : W p l e R s m args below meth c H locs cells slots Q (F0 m pc ls st0) :=
  va_callq hr hS (fun q _ h => h) (fun q h => h) (fun r V1 t H1 locs1 ht _ hp hB _ _ hS1 => kk r V1 H1 locs1 hp (by rw [← ht]; exact hB) hS1)
theorem vk_v {Post : VS → Prop} (hr : va_Run p l e R s m args below meth c H locs cells slots mc ms (F0 m pc ls st0) rest (va_Qv Post (vB D A) A a) A) (hS : va_S A s.heap H locs)
    (kk : ∀ (V1 : VS) (H1 : Heap) (locs1 : List Loc), Post V1 → HV D A V1 H1 → va_S A s.heap H1 locs1 → W p l e R s m args below meth c H1 locs1 (cells + mc) (slots + ms) Q (F0 m (pc + 3) ls rest)) : W p l e R s m args below meth c H locs cells slots Q (F0 m pc ls st0) :=
  va_callv hr hS (fun q _ h => h) (fun q h => h) (fun V1 t H1 locs1 ht _ hp hB _ _ hS1 => kk V1 H1 locs1 hp (by rw [← ht]; exact hB) hS1)
/-- what is thrown by a callee: KX -/
abbrev vKX (p : Program) (l : Launch) (e : Env) (R : Room) (s : State) (m : MethodId) (args : Array Value) (below : List Frame) (meth : Method) (c : Code) (D : va_G) (A : Nat → Prop) (cells slots : Nat) (Q : State → Prop) (g : JFrame) (PX : Nat → Nat → VS → Prop) : Prop :=
  ∀ (k q : Nat) (V1 : VS) (H1 : Heap) (locs1 : List Loc) (ce : Cell), PX k q V1 → HV D A V1 H1 → va_S A s.heap H1 locs1 → H1[q]? = some ce → ce.vm = .none → s.vm.findClass (exN k) = some ce.cls → vx_W p l e R s m args below meth c H1 locs1 cells slots Q g q
theorem vy_i {Post : Int32 → VS → Prop} (hr : vx_Run p l e R s m args below meth c H locs cells slots mc ms (F0 m pc ls st0) rest (va_Qi Post (vB D A) A a) (vX D A PX) A) (hS : va_S A s.heap H locs)
    (kx : vKX p l e R s m args below meth c D A (cells + mc) (slots + ms) Q (F0 m pc ls rest) PX)
    (kk : ∀ (r : Int32) (V1 : VS) (H1 : Heap) (locs1 : List Loc), Post r V1 → HV D A V1 H1 → va_S A s.heap H1 locs1 → W p l e R s m args below meth c H1 locs1 (cells + mc) (slots + ms) Q (F0 m (pc + 3) ls (.int r :: rest))) : W p l e R s m args below meth c H locs cells slots Q (F0 m pc ls st0) :=
  vx_calli hr hS (fun q _ h => h) (fun q h => h) (fun q _ h => h) (fun E ce q9 u t H1 locs1 ht _ hp hB _ _ hS1 h1 h2 h3 => by obtain ⟨rfl, hB⟩ := hB; exact kx u.1 q9 u.2 H1 locs1 ce hp (by rw [← ht]; exact hB) hS1 h1 h2 h3)
    (fun r V1 t H1 locs1 ht _ hp hB _ _ hS1 => kk r V1 H1 locs1 hp (by rw [← ht]; exact hB) hS1)
theorem vy_l {Post : Int64 → VS → Prop} (hr : vx_Run p l e R s m args below meth c H locs cells slots mc ms (F0 m pc ls st0) rest (va_Ql Post (vB D A) A a) (vX D A PX) A) (hS : va_S A s.heap H locs)
    (kx : vKX p l e R s m args below meth c D A (cells + mc) (slots + ms) Q (F0 m pc ls rest) PX)
    (kk : ∀ (r : Int64) (V1 : VS) (H1 : Heap) (locs1 : List Loc), Post r V1 → HV D A V1 H1 → va_S A s.heap H1 locs1 → W p l e R s m args below meth c H1 locs1 (cells + mc) (slots + ms) Q (F0 m (pc + 3) ls (.long r :: rest))) : W p l e R s m args below meth c H locs cells slots Q (F0 m pc ls st0) :=
  vx_calll hr hS (fun q _ h => h) (fun q h => h) (fun q _ h => h) (fun E ce q9 u t H1 locs1 ht _ hp hB _ _ hS1 h1 h2 h3 => by obtain ⟨rfl, hB⟩ := hB; exact kx u.1 q9 u.2 H1 locs1 ce hp (by rw [← ht]; exact hB) hS1 h1 h2 h3)
    (fun r V1 t H1 locs1 ht _ hp hB _ _ hS1 => kk r V1 H1 locs1 hp (by rw [← ht]; exact hB) hS1)
theorem vy_q {Post : Option Nat → VS → Prop} (hr : vx_Run p l e R s m args below meth c H locs cells slots mc ms (F0 m pc ls st0) rest (va_Qq Post (vB D A) A a) (vX D A PX) A) (hS : va_S A s.heap H locs)
    (kx : vKX p l e R s m args below meth c D A (cells + mc) (slots + ms) Q (F0 m pc ls rest) PX)
    (kk : ∀ (r : Option Nat) (V1 : VS) (H1 : Heap) (locs1 : List Loc), Post r V1 → HV D A V1 H1 → va_S A s.heap H1 locs1 → W p l e R s m args below meth c H1 locs1 (cells + mc) (slots + ms) Q (F0 m (pc + 3) ls (va_rf r :: rest))) : W p l e R s m args below meth c H locs cells slots Q (F0 m pc ls st0) :=
  vx_callq hr hS (fun q _ h => h) (fun q h => h) (fun q _ h => h) (fun E ce q9 u t H1 locs1 ht _ hp hB _ _ hS1 h1 h2 h3 => by obtain ⟨rfl, hB⟩ := hB; exact kx u.1 q9 u.2 H1 locs1 ce hp (by rw [← ht]; exact hB) hS1 h1 h2 h3)
    (fun r V1 t H1 locs1 ht _ hp hB _ _ hS1 => kk r V1 H1 locs1 hp (by rw [← ht]; exact hB) hS1)
theorem vy_v {Post : VS → Prop} (hr : vx_Run p l e R s m args below meth c H locs cells slots mc ms (F0 m pc ls st0) rest (va_Qv Post (vB D A) A a) (vX D A PX) A) (hS : va_S A s.heap H locs)
    (kx : vKX p l e R s m args below meth c D A (cells + mc) (slots + ms) Q (F0 m pc ls rest) PX)
    (kk : ∀ (V1 : VS) (H1 : Heap) (locs1 : List Loc), Post V1 → HV D A V1 H1 → va_S A s.heap H1 locs1 → W p l e R s m args below meth c H1 locs1 (cells + mc) (slots + ms) Q (F0 m (pc + 3) ls rest)) : W p l e R s m args below meth c H locs cells slots Q (F0 m pc ls st0) :=
  vx_callv hr hS (fun q _ h => h) (fun q h => h) (fun q _ h => h) (fun E ce q9 u t H1 locs1 ht _ hp hB _ _ hS1 h1 h2 h3 => by obtain ⟨rfl, hB⟩ := hB; exact kx u.1 q9 u.2 H1 locs1 ce hp (by rw [← ht]; exact hB) hS1 h1 h2 h3)
    (fun V1 t H1 locs1 ht _ hp hB _ _ hS1 => kk V1 H1 locs1 hp (by rw [← ht]; exact hB) hS1)
/-- out of a method without a table -/
theorem vo_X {Qv : Array Value → State → Outcome → State → Prop} (htab : ∀ x ∈ c.exceptionTable.toList, False) (hlocks : meth.locks = false) (hc : cells ≤ MC) (hs : slots ≤ MS) : vKX p l e R s m args below meth c D A cells slots (vx_MQ below Qv (vX D A PX) args s MC MS A) (F0 m pc ls rest) PX := by
  intro k q V1 H1 locs1 ce hp hV hS h1 h2 h3
  exact vx_out (E := exN k) (ce := ce) (fun x hx => (htab x hx).elim) hlocks h1 h2 h3 (fun t ht ha => ⟨(k, V1), hp, ⟨rfl, by rw [ht]; exact hV⟩, hS.F ht⟩) hS.2.2 hc hs
/-- a made exception, thrown out of a method without a table -/
theorem vt_F {Qv : Array Value → State → Outcome → State → Prop} {cc : ByteArray} {V : VS} {cA : Nat → ClassId} {o : Nat × List Value} {q : Nat} (hx : p.tables.exec = Jvm.exec) (hb : c.code = cc) (htab : ∀ x ∈ c.exceptionTable.toList, False) (hlocks : meth.locks = false) (hK : GK D cA s) (hV : HV D A V H) (hS : va_S A s.heap H locs) (ho : vO V [4] q = some o) (hp : PX 0 q V) (hc : cells ≤ MC) (hs : slots ≤ MS) (hdg : decode cc pc = .ok (.athrow, 1)) :
    W p l e R s m args below meth c H locs cells slots (vx_MQ below Qv (vX D A PX) args s MC MS A) (F0 m pc ls (.ref q :: rest)) := by
  refine vx_athrow hx hb hdg ?_
  have h1 : o.1 = 4 := List.mem_singleton.mp (vO_e ho).2
  obtain ⟨ws, j, hP, hD, hw, hj⟩ := hV.at (vO_e ho).1
  obtain ⟨q', h2, cell, g1, g2, g3, -⟩ := hP j _ hj
  have hr : vwCl[o.1]? = some (RX5, TX5, 8) := by rw [h1]; rfl
  have hcl : s.vm.findClass (exN 0) = some cell.cls := by
    rw [g2]
    exact (hK.1.1 _ _ hr).2.1
  exact vo_X htab hlocks hc hs 0 q V H locs cell hp hV hS g1 g3 hcl
theorem vt_T {Qv : Array Value → State → Outcome → State → Prop} {cc : ByteArray} {V : VS} {q : Nat} {ce : Cell} (hx : p.tables.exec = Jvm.exec) (hb : c.code = cc) (htab : ∀ x ∈ c.exceptionTable.toList, False) (hlocks : meth.locks = false) (hV : HV D A V H) (hS : va_S A s.heap H locs) (h1 : H[q]? = some ce) (h2 : ce.vm = .none) (h3 : s.vm.findClass "SaidSo$Trouble" = some ce.cls) (hp : PX 1 q V) (hc : cells ≤ MC) (hs : slots ≤ MS) (hdg : decode cc pc = .ok (.athrow, 1)) :
    W p l e R s m args below meth c H locs cells slots (vx_MQ below Qv (vX D A PX) args s MC MS A) (F0 m pc ls (.ref q :: rest)) :=
  vx_athrow hx hb hdg (vo_X htab hlocks hc hs 1 q V H locs ce hp hV hS h1 h2 h3)
end VK
section VE
variable {p : Program} {l : Launch} {e : Env} {R : Room} {s : State} {m : MethodId} {args : Array Value} {below : List Frame} {meth : Method} {c : Code} {H : Heap} {locs : List Loc} {cells slots : Nat}
variable {cc : ByteArray} {pc : Nat} {ls : Array Slot} {D : va_G} {A : Nat → Prop} {mc ms : Nat} {V : VS} {own : String} {nL : Nat}
theorem ve_i {ty : FieldType} {Post : Int32 → VS → Prop} {v : Int32} (S : CallFix p m c cc nL s args lw_all own) (hlocks : meth.locks = false) (hr : meth.sig.returnType = some ty) (hV : HV D A V H) (hS : va_S A s.heap H locs) (hp : Post v V) (hn : narrow ty (.int v) = .int v) (hc : cells ≤ mc) (hs : slots ≤ ms) (hd : decode cc pc = .ok (.ireturn, 1)) :
    W p l e R s m args below meth c H locs cells slots (MQ below (va_Qi Post (vB D A) A) args s mc ms A) (F0 m pc ls [.int v]) :=
  W.widen (k := mc) (n := ms) hc hs (W.zret (v := v) S.1 S.2.1 hr hn (fun t ht hW => ⟨⟨v, V, rfl, hp, by show HV _ _ _ t.heap; rw [ht]; exact hV⟩, hS.F ht⟩) hS.2.2 hd)
theorem ve_l {Post : Int64 → VS → Prop} {v : Int64} (S : CallFix p m c cc nL s args lw_all own) (hlocks : meth.locks = false) (hr : meth.sig.returnType = some .long) (hV : HV D A V H) (hS : va_S A s.heap H locs) (hp : Post v V) (hc : cells ≤ mc) (hs : slots ≤ ms) (hd : decode cc pc = .ok (.lreturn, 1)) :
    W p l e R s m args below meth c H locs cells slots (MQ below (va_Ql Post (vB D A) A) args s mc ms A) (F0 m pc ls [.long v]) :=
  W.widen (k := mc) (n := ms) hc hs (W.lret (v := v) S.1 S.2.1 hr (fun t ht hW => ⟨⟨v, V, rfl, hp, by show HV _ _ _ t.heap; rw [ht]; exact hV⟩, hS.F ht⟩) hS.2.2 hd)
theorem ve_v {Post : VS → Prop} (S : CallFix p m c cc nL s args lw_all own) (hlocks : meth.locks = false) (hr : meth.sig.returnType = none) (hV : HV D A V H) (hS : va_S A s.heap H locs) (hp : Post V) (hc : cells ≤ mc) (hs : slots ≤ ms) (hd : decode cc pc = .ok (.return_, 1)) :
    W p l e R s m args below meth c H locs cells slots (MQ below (va_Qv Post (vB D A) A) args s mc ms A) (F0 m pc ls []) :=
  W.widen (k := mc) (n := ms) hc hs (W.vret S.1 S.2.1 hr (fun t ht hW => ⟨⟨V, rfl, hp, by show HV _ _ _ t.heap; rw [ht]; exact hV⟩, hS.F ht⟩) hS.2.2 hd)
theorem ve_q {rt : FieldType} {Post : Option Nat → VS → Prop} {r : Option Nat} (S : CallFix p m c cc nL s args lw_all own) (hlocks : meth.locks = false) (hr : meth.sig.returnType = some rt) (hrt : (∃ n, rt = .object n) ∨ ∃ t, rt = .array t) (hV : HV D A V H) (hS : va_S A s.heap H locs) (hp : Post r V) (hc : cells ≤ mc) (hs : slots ≤ ms) (hd : decode cc pc = .ok (.areturn, 1)) :
    W p l e R s m args below meth c H locs cells slots (MQ below (va_Qq Post (vB D A) A) args s mc ms A) (F0 m pc ls [va_rf r]) :=
  W.widen (k := mc) (n := ms) hc hs (W.aret (v := va_rf r) S.1 S.2.1 hr hrt (by cases r with | none => exact Or.inl rfl | some a => exact Or.inr ⟨a, rfl⟩) (fun t ht hW => ⟨⟨r, V, rfl, hp, by show HV _ _ _ t.heap; rw [ht]; exact hV⟩, hS.F ht⟩) hS.2.2 hd)
end VE
theorem lw_U {own : String} {idx : Nat} {C owner : String} {x y : MethodName} {b : ByteArray} {L : Nat} {r : Option FieldType} (h1 : Cond.methodLink own idx x ∈ lw_all) (h2 : Cond.sameMethod x.cls owner x.name x.desc ∈ lw_all) (h3 : Cond.selects C x y ∈ lw_all) (h4 : Cond.instanceMethod y ∈ lw_all) (h5 : Cond.initialized y.cls ∈ lw_all) (h6 : Cond.code y b L r ∈ lw_all) : GoodIn lw_all (va_wsU own idx C owner x y (ws_ y b L r)) := by
  refine lw_app ?_ (lw_meth h6)
  intro w hw
  simp only [List.mem_cons, List.not_mem_nil, or_false] at hw
  rcases hw with e | e | e | e | e
  · rw [e]; exact h1
  · rw [e]; exact h2
  · rw [e]; exact h3
  · rw [e]; exact h4
  · rw [e]; exact h5
theorem lw_O {own : String} {idx : Nat} {C owner : String} {x y : MethodName} {b : ByteArray} {L : Nat} {r : Option FieldType} (h1 : Cond.methodLink own idx x ∈ lw_all) (h2 : Cond.sameMethod x.cls owner x.name x.desc ∈ lw_all) (h0 : Cond.instanceMethod ⟨owner, x.name, x.desc⟩ ∈ lw_all) (h3 : Cond.selects C x y ∈ lw_all) (h4 : Cond.instanceMethod y ∈ lw_all) (h5 : Cond.initialized y.cls ∈ lw_all) (h6 : Cond.code y b L r ∈ lw_all) : GoodIn lw_all (va_wsO own idx C owner x y (ws_ y b L r)) := by
  refine lw_app ?_ (lw_meth h6)
  intro w hw
  simp only [List.mem_cons, List.not_mem_nil, or_false] at hw
  rcases hw with e | e | e | e | e | e
  · rw [e]; exact h1
  · rw [e]; exact h2
  · rw [e]; exact h0
  · rw [e]; exact h3
  · rw [e]; exact h4
  · rw [e]; exact h5
section VGS
variable {p : Program} {l : Launch} {e : Env} {R : Room} {s : State} {m : MethodId} {args : Array Value} {below : List Frame} {meth : Method} {c : Code} {H : Heap} {locs : List Loc} {cells slots : Nat} {Q : State → Prop}
variable {cc : ByteArray} {pc nL : Nat} {ls : Array Slot} {rest : List Value} {A : Nat → Prop} {index : Nat} {own : String}
theorem vgs_T (S : CallFix p m c cc nL s args lw_all own) (hG : GH A s s.heap) (hS : va_S A s.heap H locs) (hl : Cond.fieldLink own index "SaidSo" "TROUBLE" "LSaidSo$Trouble;" ∈ lw_all) (hdg : decode cc pc = .ok (.getstatic index, 3))
    (kk : ∀ (tr : Nat) (ce : Cell), H[tr]? = some ce → ce.vm = .none → s.vm.findClass "SaidSo$Trouble" = some ce.cls → W p l e R s m args below meth c H locs cells slots Q (F0 m (pc + 3) ls (.ref tr :: rest))) : W p l e R s m args below meth c H locs cells slots Q (F0 m pc ls rest) := by
  obtain ⟨hx, hb, hml, hown, hts⟩ := S
  obtain ⟨h1, h2, ⟨tr, ce, h3, h4, h5, h6, h7⟩, -⟩ := hG
  exact va_gets hx hb h3 hS hown (hts _ hl) (fun _ h => h) hdg (kk tr ce (by rw [hS.2.1 tr (Array.getElem?_eq_some_iff.mp h4).1 h7]; exact h4) h5 h6)
theorem vgs_TN {host : String} (S : CallFix p m c cc nL s args lw_all own) (hG : GH A s s.heap) (hS : va_S A s.heap H locs) (hl : va_Nw (.fieldLinkNest own index "SaidSo" "TROUBLE" "LSaidSo$Trouble;" host) s) (hdg : decode cc pc = .ok (.getstatic index, 3))
    (kk : ∀ (tr : Nat) (ce : Cell), H[tr]? = some ce → ce.vm = .none → s.vm.findClass "SaidSo$Trouble" = some ce.cls → W p l e R s m args below meth c H locs cells slots Q (F0 m (pc + 3) ls (.ref tr :: rest))) : W p l e R s m args below meth c H locs cells slots Q (F0 m pc ls rest) := by
  obtain ⟨hx, hb, hml, hown, hts⟩ := S
  obtain ⟨h1, h2, ⟨tr, ce, h3, h4, h5, h6, h7⟩, -⟩ := hG
  exact va_getsN (host := host) hx hb h3 hS hown (va_Nw.use rfl hl) (fun _ h => h) hdg (kk tr ce (by rw [hS.2.1 tr (Array.getElem?_eq_some_iff.mp h4).1 h7]; exact h4) h5 h6)
theorem vgs_U (S : CallFix p m c cc nL s args lw_all own) (hG : GH A s s.heap) (hS : va_S A s.heap H locs) (hl : Cond.fieldLink own index Bundle.tN "UNASSIGNED_STACK" Bundle.steD ∈ lw_all) (hdg : decode cc pc = .ok (.getstatic index, 3))
    (kk : ∀ r : Option Nat, W p l e R s m args below meth c H locs cells slots Q (F0 m (pc + 3) ls (va_rf r :: rest))) : W p l e R s m args below meth c H locs cells slots Q (F0 m pc ls rest) := by
  obtain ⟨hx, hb, hml, hown, hts⟩ := S
  rcases hG.1.1 with h3 | ⟨t, h3⟩
  · exact va_gets hx hb h3 hS hown (hts _ hl) (fun _ h => h) hdg (kk none)
  · exact va_gets hx hb h3 hS hown (hts _ hl) (fun _ h => h) hdg (kk (some t))
theorem vgs_N (S : CallFix p m c cc nL s args lw_all own) (hG : GH A s s.heap) (hS : va_S A s.heap H locs) (hl : Cond.fieldLink own index Bundle.tN "SUPPRESSED_SENTINEL" Bundle.listD ∈ lw_all) (hdg : decode cc pc = .ok (.getstatic index, 3))
    (kk : ∀ r : Option Nat, W p l e R s m args below meth c H locs cells slots Q (F0 m (pc + 3) ls (va_rf r :: rest))) : W p l e R s m args below meth c H locs cells slots Q (F0 m pc ls rest) := by
  obtain ⟨hx, hb, hml, hown, hts⟩ := S
  rcases hG.2.1.1 with h3 | ⟨t, h3⟩
  · exact va_gets hx hb h3 hS hown (hts _ hl) (fun _ h => h) hdg (kk none)
  · exact va_gets hx hb h3 hS hown (hts _ hl) (fun _ h => h) hdg (kk (some t))
end VGS

theorem le_rf {a N : Nat} (h : a ≤ 10) : a ≤ 10 + N := Nat.le_trans h (Nat.le_add_right _ _)
theorem le_rl {a N : Nat} (h : a ≤ 300) : a ≤ 300 + 60 * N := Nat.le_trans h (Nat.le_add_right _ _)
abbrev RTG : Type := Nat → Nat → VS → Nat → Nat → (Option Nat → VS → Prop) → (Nat → Nat → VS → Prop) → Prop
abbrev rG (N MC MS : Nat) : Room := { frames := 10 + N, cells := MC, slots := MS, locals := 300 + 60 * N }
theorem le_rg {N : Nat} : 10 + N + 1 ≤ 10 + (N + 1) := Nat.le_refl _
theorem le_rgl {a N : Nat} (h : a ≤ 41) : 8 + (a + 11) + (300 + 60 * N) ≤ 300 + 60 * (N + 1) := by omega
abbrev RTP : Type := Nat → Nat → VS → (Int64 → VS → Prop) → (Nat → Nat → VS → Prop) → Prop
abbrev rP (N : Nat) : Room := { frames := 10 + N, cells := 0, slots := 0, locals := 300 + 60 * N }
theorem le_rg2 {N : Nat} : 10 + N + 1 ≤ 10 + (N + 1) := Nat.le_refl _
theorem le_rp {N : Nat} : 360 + 60 * N ≤ 300 + 60 * (N + 1) := by omega

theorem HV.more {D : va_G} {A : Nat → Prop} {V : VS} {H H1 : Heap} (h : HV D A V H) (hq : ∀ q : Nat, q < H.size → H1[q]? = H[q]?) : HV D A V H1 := by
  obtain ⟨ws, hP, hD, hw⟩ := h
  exact ⟨ws, hP.kept (fun k q hk => hq q.1 (hP k q hk).lt), hD, hw⟩
section VT0
variable {p : Program} {l : Launch} {e : Env} {R : Room} {s : State} {m : MethodId} {args : Array Value} {below : List Frame} {meth : Method} {c : Code} {H : Heap} {locs : List Loc} {cells slots : Nat}
variable {cc : ByteArray} {pc nL : Nat} {ls : Array Slot} {rest : List Value} {D : va_G} {cA : Nat → ClassId} {A : Nat → Prop} {V : VS} {own : String} {MC MS : Nat} {PX : Nat → Nat → VS → Prop} {Qv : Array Value → State → Outcome → State → Prop}
/-- 'throw new E()' of the JDK's E, out of a method without a table -/
theorem vt_0 {k ik ic : Nat} {names : List String} (S : CallFix p m c cc nL s args lw_all own) (hK : GK D cA s) (hG : GH A s s.heap) (hV : HV D A V H) (hS : va_S A s.heap H locs) (htab : ∀ x ∈ c.exceptionTable.toList, False) (hlocks : meth.locks = false) (hT : l.stackTraces = false)
    {cls : String} (hcls : exN k = cls) (hfit : Bundle.fit cls = true) (hnames : ∀ n ∈ names, Bundle.fit n = true) (hk : Cond.classLink own ik cls ∈ lw_all) (hini : Cond.initialized cls ∈ lw_all) (hat : ∀ w ∈ vx_at0 own ic cls names, w.before args s = true)
    (hgood : ∀ w ∈ Cond.classLink own ik cls :: Cond.initialized cls :: vx_at0 own ic cls names, vx_ot w = true)
    (d0 : decode cc pc = .ok (.new ik, 3)) (d3 : decode cc (pc + 3) = .ok (.dup, 1)) (d4 : decode cc (pc + 4) = .ok (.invokespecial ic, 3)) (d7 : decode cc (pc + 7) = .ok (.athrow, 1))
    (hf : names.length + 4 ≤ R.frames) (hl : (rest.map fun v => v.category).sum + (13 * (names.length + 1) + 42) ≤ R.locals) (h : ∀ q : Nat, PX k q V) (hc1 : cells + 1 ≤ MC) (hc2 : slots + 6 ≤ MS) (hsz : ls.size = nL) (hRc : MC ≤ R.cells) (hRs : MS ≤ R.slots) :
    W p l e R s m args below meth c H locs cells slots (vx_MQ below Qv (vX D A PX) args s MC MS A) (F0 m pc ls rest) := by
  obtain ⟨hx, hb, hml, hown, hts⟩ := S
  refine vx_throw0 (names := names) hx hb hT hown hfit hnames (hts _ hk) (hts _ hini) hat hgood hG.1 hG.2.1 hS (hsz.trans hml.symm) d0 d3 d4 d7 (fun x hx => (htab x hx).elim) hf hl (Nat.le_trans hc1 hRc) (Nat.le_trans hc2 hRs) hlocks ?_ hS.2.2 hc1 hc2
  intro t ht hz hq q
  refine ⟨(k, V), h q, ⟨hcls.symm, hV.more hq⟩, Nat.le_trans hS.1 hz, fun a h1 h2 => ?_⟩
  rw [hq a (Nat.lt_of_lt_of_le h1 hS.1)]
  exact hS.2.1 a h1 h2
end VT0
/-! FROM HEAP MODE TO RECORD MODE, AND THE LAW'S OWN CALLS -/
theorem va_cutP {D : va_G} {H : Heap} {A : Nat → Prop} (P : Nat × va_E → Prop) : ∀ ws : va_W, va_P D vwCl ws H → va_D A ws → ∃ ws' : va_W, va_P D vwCl ws' H ∧ va_D A ws' ∧ ∀ p, p ∈ ws' ↔ p ∈ ws ∧ P p := by
  intro ws
  induction ws with
  | nil => exact fun hP hD => ⟨[], hP, hD, fun p => by simp⟩
  | cons p t ih =>
    intro hP hD
    have hP1 : va_P D vwCl t H := fun k q hk => hP (k + 1) q hk
    have hD1 : va_D A t := ⟨fun i j a b ha hb hab => by have := hD.1 (i + 1) (j + 1) a b ha hb hab; omega, fun k q hk => hD.2 (k + 1) q hk⟩
    obtain ⟨t', h1, h2, h3⟩ := ih hP1 hD1
    by_cases hp : P p
    · refine ⟨p :: t', ?_, ⟨?_, ?_⟩, fun q => ?_⟩
      · intro k q hk
        cases k with
        | zero => exact hP 0 q hk
        | succ k => exact h1 k q hk
      · intro i j a b ha hb hab
        cases i with
        | zero =>
          cases j with
          | zero => rfl
          | succ j =>
            cases ha
            have hm := ((h3 b).mp (List.mem_of_getElem? hb)).1
            obtain ⟨j', hj'⟩ := List.mem_iff_getElem?.mp hm
            have := hD.1 0 (j' + 1) p b rfl hj' hab
            omega
        | succ i =>
          cases j with
          | zero =>
            cases hb
            have hm := ((h3 a).mp (List.mem_of_getElem? ha)).1
            obtain ⟨j', hj'⟩ := List.mem_iff_getElem?.mp hm
            have := hD.1 (j' + 1) 0 a p hj' rfl hab
            omega
          | succ j =>
            have := h2.1 i j a b ha hb hab
            omega
      · intro k q hk
        cases k with
        | zero => exact hD.2 0 q hk
        | succ k => exact h2.2 k q hk
      · rw [List.mem_cons, List.mem_cons, h3 q]
        constructor
        · rintro (rfl | ⟨g1, g2⟩)
          · exact ⟨Or.inl rfl, hp⟩
          · exact ⟨Or.inr g1, g2⟩
        · rintro ⟨rfl | g1, g2⟩
          · exact Or.inl rfl
          · exact Or.inr ⟨g1, g2⟩
    · refine ⟨t', h1, h2, fun q => ?_⟩
      rw [List.mem_cons, h3 q]
      constructor
      · rintro ⟨g1, g2⟩
        exact ⟨Or.inr g1, g2⟩
      · rintro ⟨rfl | g1, g2⟩
        · exact absurd g2 hp
        · exact ⟨g1, g2⟩
section HVX
variable {D : va_G} {A B : Nat → Prop} {V Vs : VS} {H H1 : Heap} {a : Nat} {e : va_E}
theorem HV.inA (h : HV D A V H) (e1 : V a = some e) : A a := by
  obtain ⟨ws, q, -, h2, -, h4⟩ := h.at e1
  exact h2.2 q _ h4
theorem HV.sub (h : HV D A V H) (hs : ∀ b x, Vs b = some x → V b = some x) : HV D A Vs H := by
  obtain ⟨ws, hP, hD, hw⟩ := h
  obtain ⟨ws', h1, h2, h3⟩ := va_cutP (fun p => Vs p.1 = some p.2) ws hP hD
  refine ⟨ws', h1, h2, fun b x => ?_⟩
  rw [h3]
  exact ⟨fun g => ⟨(hw b x).mp (hs b x g), g⟩, fun g => g.2⟩
theorem HV.weaken (h : HV D A V H) (hAB : ∀ b x, V b = some x → B b) : HV D B V H := by
  obtain ⟨ws, hP, hD, hw⟩ := h
  exact ⟨ws, hP, hD.weaken (fun k q hk _ => hAB q.1 q.2 ((hw q.1 q.2).mpr (List.mem_of_getElem? hk))), hw⟩
theorem HV.kept (h : HV D A V H) (hq : ∀ b x, V b = some x → H1[b]? = H[b]?) : HV D A V H1 := by
  obtain ⟨ws, hP, hD, hw⟩ := h
  exact ⟨ws, hP.kept (fun k q hk => hq q.1 q.2 ((hw q.1 q.2).mpr (List.mem_of_getElem? hk))), hD, hw⟩
theorem mo_of_V {cA : Nat → ClassId} {m0 : Nat} {ad : Nat → Nat} {M : MS} (h : HV D A V H) (h0 : V m0 = some (.inr (mci, mfs ad M))) (h1 : ∀ k ∈ mAF, V (ad k) = some (mar cA M k)) : va_P D vwCl (mo cA m0 ad M) H := by
  intro k q hk
  cases k with
  | zero =>
    cases hk
    obtain ⟨ws, j, hP, -, -, hj⟩ := h.at h0
    exact hP j _ hj
  | succ k =>
    have hk' : (mAF.map (fun k => (ad k, mar cA M k)))[k]? = some q := hk
    rw [List.getElem?_map] at hk'
    cases hg : mAF[k]? with
    | none => rw [hg] at hk'; cases hk'
    | some k' =>
      rw [hg] at hk'
      cases hk'
      obtain ⟨ws, j, hP, -, -, hj⟩ := h.at (h1 k' (List.mem_of_getElem? hg))
      exact hP j _ hj
end HVX
theorem mo_lt {D : va_G} {cA : Nat → ClassId} {m0 : Nat} {ad : Nat → Nat} {M : MS} {H : Heap} (h : va_P D vwCl (mo cA m0 ad M) H) {q : Nat} (hq : mF m0 ad q) : q < H.size := by
  rcases hq with rfl | ⟨k, hk, rfl⟩
  · exact (h 0 _ rfl).lt
  · obtain ⟨j, hj⟩ := mAF_at hk
    exact (h (j + 1) _ (mo_a hj)).lt
theorem mo_kept {D : va_G} {cA : Nat → ClassId} {m0 : Nat} {ad : Nat → Nat} {M : MS} {H H1 : Heap} (hA : mAd m0 ad) (h : va_P D vwCl (mo cA m0 ad M) H) (hq : ∀ q, mF m0 ad q → H1[q]? = H[q]?) : va_P D vwCl (mo cA m0 ad M) H1 :=
  h.kept (fun k q hk => hq q.1 ((mo_D (cA := cA) (M := M) hA).2 k q hk))
theorem GH.narrow {A B : Nat → Prop} {U : State} {H : Heap} (h : GH A U H) (hAB : ∀ q, B q → A q) : GH B U H := by
  obtain ⟨h1, h2, ⟨tr, ce, h3, h4, h5, h6, h7⟩, ⟨h8, h8'⟩, ⟨tn, adK, h9, h10, h11⟩, a, h12, h13⟩ := h
  have sc : ∀ {a n f}, SC A U H a n f → SC B U H a n f := by
    intro a n f g
    obtain ⟨g1, g2, b, g3, g4⟩ := g
    obtain ⟨cf, k, i, f, cell, t1, t2, t3, t4, t5, t6⟩ := g2
    obtain ⟨cf', k', i', f', cell', s1, s2, s3, s4, s5, s6⟩ := g3
    exact ⟨g1.narrow hAB, ⟨cf, k, i, f, cell, t1, t2, t3, t4, t5, fun z => t6 (hAB _ z)⟩, b, ⟨cf', k', i', f', cell', s1, s2, s3, s4, s5, fun z => s6 (hAB _ z)⟩, g4.narrow hAB⟩
  exact ⟨h1.narrow hAB, h2.narrow hAB, ⟨tr, ce, h3.narrow hAB, h4, h5, h6, fun z => h7 (hAB _ z)⟩, ⟨h8.narrow hAB, h8'.narrow hAB⟩, ⟨tn, adK, h9.narrow hAB, h10.narrow hAB, fun j hj => sc (h11 j hj)⟩, a, h12, sc h13⟩
section LW
variable {p : Program} {l : Launch} {e : Env} {R : Room} {s : State} {m : MethodId} {args : Array Value} {below : List Frame} {meth : Method} {c : Code} {H : Heap} {locs : List Loc} {cells slots : Nat} {Q : State → Prop}
variable {cc : ByteArray} {pc nL : Nat} {ls : Array Slot} {rest st0 As : List Value} {D : va_G} {cA : Nat → ClassId} {m0 : Nat} {ad : Nat → Nat} {M : MS} {V : VS} {A A0 : Nat → Prop} {index maxL n mc ms : Nat} {H0 : Heap} {y : MethodName} {bytes : ByteArray} {rm : Room} {own : String} {ret : Option FieldType} {Qc : Array Value → State → Outcome → State → Prop} {XC : String → Nat → State → State → Prop} {b : Nat} {o : Nat × List Value} {a : Array Value}
/-- a method of the reference's, from outside of it -/
theorem mA_i {ty : FieldType} {Post : Int32 → MS → Prop} (S : CallFix p m c cc nL s args lw_all own) (hK : va_K D vwCl (tysA cA) s) (hP : va_P D vwCl (mo cA m0 ad M) H) (hS : va_S A0 H0 H locs) (hF : ∀ q, mF m0 ad q → A0 q)
    (hM : Met l y (ws_ y bytes maxL (some ty)) rm (mPc (.ref m0 :: As) D cA m0 ad M) (va_Qi Post (mB D cA m0 ad) (mF m0 ad)) 0 0 (mF m0 ad))
    (cw : CallW R s args own RX4 index y bytes maxL (some ty) (ws_ y bytes maxL (some ty)) rm 0 0 n) (hn : As.length = n) (hst : st0 = As.reverse ++ .ref m0 :: rest) (hsz : ls.size = nL) (hroom : (rest.map fun v => v.category).sum ≤ 8) (hdg : decode cc pc = .ok (.invokevirtual index, 3)) (hc : cells ≤ R.cells ∧ slots ≤ R.slots)
    (kk : ∀ (r : Int32) (M1 : MS) (H1 : Heap) (locs1 : List Loc), Post r M1 → va_P D vwCl (mo cA m0 ad M1) H1 → H.size ≤ H1.size → (∀ q, q < H.size → ¬ mF m0 ad q → H1[q]? = H[q]?) → va_S A0 H0 H1 locs1 → W p l e R s m args below meth c H1 locs1 cells slots Q (F0 m (pc + 3) ls (.int r :: rest))) : W p l e R s m args below meth c H locs cells slots Q (F0 m pc ls st0) := by
  subst hst
  exact va_calli (mc_run S hK hP hM cw hn hsz hroom hdg hc) hS (fun q _ h => hF q h) (fun q h => hF q h) (fun r M1 t H1 locs1 ht _ hp hB hz hk hS1 => kk r M1 H1 locs1 hp (by rw [← ht]; exact hB) hz hk hS1)
theorem mA_l {Post : Int64 → MS → Prop} (S : CallFix p m c cc nL s args lw_all own) (hK : va_K D vwCl (tysA cA) s) (hP : va_P D vwCl (mo cA m0 ad M) H) (hS : va_S A0 H0 H locs) (hF : ∀ q, mF m0 ad q → A0 q)
    (hM : Met l y (ws_ y bytes maxL (some .long)) rm (mPc (.ref m0 :: As) D cA m0 ad M) (va_Ql Post (mB D cA m0 ad) (mF m0 ad)) 0 0 (mF m0 ad))
    (cw : CallW R s args own RX4 index y bytes maxL (some .long) (ws_ y bytes maxL (some .long)) rm 0 0 n) (hn : As.length = n) (hst : st0 = As.reverse ++ .ref m0 :: rest) (hsz : ls.size = nL) (hroom : (rest.map fun v => v.category).sum ≤ 8) (hdg : decode cc pc = .ok (.invokevirtual index, 3)) (hc : cells ≤ R.cells ∧ slots ≤ R.slots)
    (kk : ∀ (r : Int64) (M1 : MS) (H1 : Heap) (locs1 : List Loc), Post r M1 → va_P D vwCl (mo cA m0 ad M1) H1 → H.size ≤ H1.size → (∀ q, q < H.size → ¬ mF m0 ad q → H1[q]? = H[q]?) → va_S A0 H0 H1 locs1 → W p l e R s m args below meth c H1 locs1 cells slots Q (F0 m (pc + 3) ls (.long r :: rest))) : W p l e R s m args below meth c H locs cells slots Q (F0 m pc ls st0) := by
  subst hst
  exact va_calll (mc_run S hK hP hM cw hn hsz hroom hdg hc) hS (fun q _ h => hF q h) (fun q h => hF q h) (fun r M1 t H1 locs1 ht _ hp hB hz hk hS1 => kk r M1 H1 locs1 hp (by rw [← ht]; exact hB) hz hk hS1)
theorem mA_v {Post : MS → Prop} (S : CallFix p m c cc nL s args lw_all own) (hK : va_K D vwCl (tysA cA) s) (hP : va_P D vwCl (mo cA m0 ad M) H) (hS : va_S A0 H0 H locs) (hF : ∀ q, mF m0 ad q → A0 q)
    (hM : Met l y (ws_ y bytes maxL none) rm (mPc (.ref m0 :: As) D cA m0 ad M) (va_Qv Post (mB D cA m0 ad) (mF m0 ad)) 0 0 (mF m0 ad))
    (cw : CallW R s args own RX4 index y bytes maxL none (ws_ y bytes maxL none) rm 0 0 n) (hn : As.length = n) (hst : st0 = As.reverse ++ .ref m0 :: rest) (hsz : ls.size = nL) (hroom : (rest.map fun v => v.category).sum ≤ 8) (hdg : decode cc pc = .ok (.invokevirtual index, 3)) (hc : cells ≤ R.cells ∧ slots ≤ R.slots)
    (kk : ∀ (M1 : MS) (H1 : Heap) (locs1 : List Loc), Post M1 → va_P D vwCl (mo cA m0 ad M1) H1 → H.size ≤ H1.size → (∀ q, q < H.size → ¬ mF m0 ad q → H1[q]? = H[q]?) → va_S A0 H0 H1 locs1 → W p l e R s m args below meth c H1 locs1 cells slots Q (F0 m (pc + 3) ls rest)) : W p l e R s m args below meth c H locs cells slots Q (F0 m pc ls st0) := by
  subst hst
  exact va_callv (mc_run S hK hP hM cw hn hsz hroom hdg hc) hS (fun q _ h => hF q h) (fun q h => hF q h) (fun M1 t H1 locs1 ht _ hp hB hz hk hS1 => kk M1 H1 locs1 hp (by rw [← ht]; exact hB) hz hk hS1)
/-- a heap-mode method, called where more than its own cells may have been written (A0 above A) -/
theorem l_pre (hK : GK D cA s) (hG : GH A0 s s.heap) (hV : HV D A V H) (hS : va_S A0 s.heap H locs) (hAA : ∀ q, A q → A0 q) (hA : ∀ q : Nat, H.size ≤ q → A q) (av : List Value) : ∀ U : State, U.heap = H → s.WarmedH U.vm → vPc av D cA A V av.toArray U := by
  intro U hU hW
  refine ⟨rfl, by rw [hU]; exact hV, hK.warm hW, fun q hq => hA q (by rw [← hU]; exact hq), ?_⟩
  rw [hU]
  exact ((hG.warm hW).kept hS.2.1).narrow hAA
theorem lr_V {ci : Nat} {r : vw_C} (S : CallFix p m c cc nL s args lw_all own) (hK : GK D cA s) (hG : GH A0 s s.heap) (hV : HV D A V H) (hS : va_S A0 s.heap H locs) (hAA : ∀ q, A q → A0 q) (hA : ∀ q : Nat, H.size ≤ q → A q) (ho : vO V [ci] b = some o) (hr : vwCl[ci]? = some r)
    (hM : Met l y (ws_ y bytes maxL ret) rm (vPc (.ref b :: As) D cA A V) Qc mc ms A) (cw : CallW R s args own r.1 index y bytes maxL ret (ws_ y bytes maxL ret) rm mc ms n)
    (hn : As.length = n) (hsz : ls.size = nL) (hroom : (rest.map fun v => v.category).sum ≤ 8) (hdg : decode cc pc = .ok (.invokevirtual index, 3)) (hc : cells + mc ≤ R.cells ∧ slots + ms ≤ R.slots) :
    va_Run p l e R s m args below meth c H locs cells slots mc ms (F0 m pc ls (As.reverse ++ .ref b :: rest)) rest (Qc (Value.ref b :: As).toArray) A := by
  have h1 : o.1 = ci := List.mem_singleton.mp (vO_e ho).2
  exact va_runV (g := F0 m pc ls (As.reverse ++ .ref b :: rest)) S hM cw ⟨vPc_blind, v_cell hK hV ho (by rw [h1]; exact hr), l_pre hK hG hV hS hAA hA _⟩ rfl hn hsz rfl (lv_room hroom) hdg hc
theorem lr_VH {ci : Nat} {r : vw_C} {hh : List (Nat × Nat × Nat × Nat)} (S : CallFix p m c cc nL s args lw_all own) (hK : GK D cA s) (hG : GH A0 s s.heap) (hV : HV D A V H) (hS : va_S A0 s.heap H locs) (hAA : ∀ q, A q → A0 q) (hA : ∀ q : Nat, H.size ≤ q → A q) (ho : vO V [ci] b = some o) (hr : vwCl[ci]? = some r)
    (hM : vx_Met l y (wsW_ y bytes maxL ret hh) rm (vPc (.ref b :: As) D cA A V) Qc XC mc ms A) (cw : vx_CVW R s args own r.1 index y bytes maxL ret hh (wsW_ y bytes maxL ret hh) rm mc ms n)
    (hn : As.length = n) (hsz : ls.size = nL) (hroom : (rest.map fun v => v.category).sum ≤ 8) (hdg : decode cc pc = .ok (.invokevirtual index, 3)) (hc : cells + mc ≤ R.cells ∧ slots + ms ≤ R.slots) :
    vx_Run p l e R s m args below meth c H locs cells slots mc ms (F0 m pc ls (As.reverse ++ .ref b :: rest)) rest (Qc (Value.ref b :: As).toArray) XC A := by
  have h1 : o.1 = ci := List.mem_singleton.mp (vO_e ho).2
  exact vx_runVX (g := F0 m pc ls (As.reverse ++ .ref b :: rest)) S hM cw ⟨vPc_blind, v_cell hK hV ho (by rw [h1]; exact hr), l_pre hK hG hV hS hAA hA _⟩ rfl hn hsz rfl (lv_room hroom) hdg hc
theorem lr_SH {hh : List (Nat × Nat × Nat × Nat)} (S : CallFix p m c cc nL s args lw_all own) (hK : GK D cA s) (hG : GH A0 s s.heap) (hV : HV D A V H) (hS : va_S A0 s.heap H locs) (hAA : ∀ q, A q → A0 q) (hA : ∀ q : Nat, H.size ≤ q → A q)
    (hM : vx_Met l y (wsW_ y bytes maxL ret hh) rm (vPc As D cA A V) Qc XC mc ms A) (cw : vx_CSW R s args own index y bytes maxL ret hh (wsW_ y bytes maxL ret hh) rm mc ms n)
    (hn : As.length = n) (hsz : ls.size = nL) (hroom : (rest.map fun v => v.category).sum ≤ 8) (hdg : decode cc pc = .ok (.invokestatic index, 3)) (hc : cells + mc ≤ R.cells ∧ slots + ms ≤ R.slots) :
    vx_Run p l e R s m args below meth c H locs cells slots mc ms (F0 m pc ls (As.reverse ++ rest)) rest (Qc As.toArray) XC A :=
  vx_runSX (g := F0 m pc ls (As.reverse ++ rest)) S hM cw ⟨vPc_blind, l_pre hK hG hV hS hAA hA _⟩ rfl hn hsz rfl (lv_room hroom) hdg hc
theorem lk_i {Post : Int32 → VS → Prop} (hr : va_Run p l e R s m args below meth c H locs cells slots mc ms (F0 m pc ls st0) rest (va_Qi Post (vB D A) A a) A) (hS : va_S A0 s.heap H locs) (hAA : ∀ q, A q → A0 q)
    (kk : ∀ (r : Int32) (V1 : VS) (H1 : Heap) (locs1 : List Loc), Post r V1 → HV D A V1 H1 → H.size ≤ H1.size → (∀ q, q < H.size → ¬ A q → H1[q]? = H[q]?) → va_S A0 s.heap H1 locs1 → W p l e R s m args below meth c H1 locs1 (cells + mc) (slots + ms) Q (F0 m (pc + 3) ls (.int r :: rest))) : W p l e R s m args below meth c H locs cells slots Q (F0 m pc ls st0) :=
  va_calli hr hS (fun q _ h => hAA q h) (fun q h => hAA q h) (fun r V1 t H1 locs1 ht _ hp hB hz hk hS1 => kk r V1 H1 locs1 hp (by rw [← ht]; exact hB) hz hk hS1)
theorem lk_l {Post : Int64 → VS → Prop} (hr : va_Run p l e R s m args below meth c H locs cells slots mc ms (F0 m pc ls st0) rest (va_Ql Post (vB D A) A a) A) (hS : va_S A0 s.heap H locs) (hAA : ∀ q, A q → A0 q)
    (kk : ∀ (r : Int64) (V1 : VS) (H1 : Heap) (locs1 : List Loc), Post r V1 → HV D A V1 H1 → H.size ≤ H1.size → (∀ q, q < H.size → ¬ A q → H1[q]? = H[q]?) → va_S A0 s.heap H1 locs1 → W p l e R s m args below meth c H1 locs1 (cells + mc) (slots + ms) Q (F0 m (pc + 3) ls (.long r :: rest))) : W p l e R s m args below meth c H locs cells slots Q (F0 m pc ls st0) :=
  va_calll hr hS (fun q _ h => hAA q h) (fun q h => hAA q h) (fun r V1 t H1 locs1 ht _ hp hB hz hk hS1 => kk r V1 H1 locs1 hp (by rw [← ht]; exact hB) hz hk hS1)
theorem ly_i {Post : Int32 → VS → Prop} (hr : vx_Run p l e R s m args below meth c H locs cells slots mc ms (F0 m pc ls st0) rest (va_Qi Post (vB D A) A a) (vX D A (fun _ _ _ => False)) A) (hS : va_S A0 s.heap H locs) (hAA : ∀ q, A q → A0 q)
    (kk : ∀ (r : Int32) (V1 : VS) (H1 : Heap) (locs1 : List Loc), Post r V1 → HV D A V1 H1 → H.size ≤ H1.size → (∀ q, q < H.size → ¬ A q → H1[q]? = H[q]?) → va_S A0 s.heap H1 locs1 → W p l e R s m args below meth c H1 locs1 (cells + mc) (slots + ms) Q (F0 m (pc + 3) ls (.int r :: rest))) : W p l e R s m args below meth c H locs cells slots Q (F0 m pc ls st0) :=
  vx_calli hr hS (fun q _ h => hAA q h) (fun q h => hAA q h) (fun q _ h => hAA q h) (fun E ce q9 u t H1 locs1 ht _ hp hB _ _ hS1 h1 h2 h3 => hp.elim)
    (fun r V1 t H1 locs1 ht _ hp hB hz hk hS1 => kk r V1 H1 locs1 hp (by rw [← ht]; exact hB) hz hk hS1)
end LW
