/-! reads of SaidSo's cells -/
theorem gF_of {V : VS} {cs : List Nat} {q k c : Nat} {l : List Value} (h : V q = some (.inr (c, l))) (hc : cs.contains c = true) : gF V cs q k = l[k]? := by
  unfold gF vO
  rw [h]
  dsimp only
  rw [if_pos hc]
theorem vO_of {V : VS} {cs : List Nat} {q c : Nat} {l : List Value} (h : V q = some (.inr (c, l))) (hc : cs.contains c = true) : vO V cs q = some (c, l) := by
  unfold vO
  rw [h]
  dsimp only
  rw [if_pos hc]
theorem gI_of {V : VS} {cs : List Nat} {q k c : Nat} {l : List Value} {v : Int32} (h : V q = some (.inr (c, l))) (hc : cs.contains c = true) (hv : l[k]? = some (.int v)) : gI V cs q k = some v := by
  unfold gI; rw [gF_of h hc, hv]; rfl
theorem gJ_of {V : VS} {cs : List Nat} {q k c : Nat} {l : List Value} {v : Int64} (h : V q = some (.inr (c, l))) (hc : cs.contains c = true) (hv : l[k]? = some (.long v)) : gJ V cs q k = some v := by
  unfold gJ; rw [gF_of h hc, hv]; rfl
theorem gR_of {V : VS} {cs : List Nat} {q k c : Nat} {l : List Value} {v : Nat} (h : V q = some (.inr (c, l))) (hc : cs.contains c = true) (hv : l[k]? = some (.ref v)) : gR V cs q k = some (some v) := by
  unfold gR; rw [gF_of h hc, hv]; rfl
theorem pF_of {V : VS} {cs : List Nat} {q k c : Nat} {l : List Value} (v : Value) (h : V q = some (.inr (c, l))) (hc : cs.contains c = true) (hk : k < l.length) : pF V cs q k v = some (vU V q (.inr (c, l.set k v))) := by
  unfold pF; rw [vO_of h hc]; dsimp only; rw [if_pos hk]
theorem bO_vO {V : VS} {cs : List Nat} {q c : Nat} {l : List Value} (h : V q = some (.inr (c, l))) (hc : cs.contains c = true) (P : Prop) : bO (vO V cs q) (fun _ => P) = P := by
  rw [vO_of h hc]; rfl
theorem inb_nI {k n : Nat} (h : k < n) (hn : n < 2 ^ 31) : inb (nI k) n = true := vp_inb (vp_in_nI h hn)
theorem lR_of {V : VS} {c : ClassId} {q n k : Nat} {f : Nat → Option Nat} (h : V q = some (.inl (c, n, .inr (.inr (.inr (.inr f)))))) (hk : k < n) (hn : n < 2 ^ 31) : lR V c q (nI k) = some (f k) := by
  unfold lR aR; rw [h]; dsimp only; rw [if_pos rfl]; dsimp only; rw [if_pos (inb_nI hk hn), nI_clamp (by omega)]
theorem lI_of {V : VS} {c : ClassId} {q n k : Nat} {f : Nat → Int32} (h : V q = some (.inl (c, n, .inl f))) (hk : k < n) (hn : n < 2 ^ 31) : lI V c q (nI k) = some (f k) := by
  unfold lI aI; rw [h]; dsimp only; rw [if_pos rfl]; dsimp only; rw [if_pos (inb_nI hk hn), nI_clamp (by omega)]
theorem lJ_of {V : VS} {c : ClassId} {q n k : Nat} {f : Nat → Int64} (h : V q = some (.inl (c, n, .inr (.inl f)))) (hk : k < n) (hn : n < 2 ^ 31) : lJ V c q (nI k) = some (f k) := by
  unfold lJ aJ; rw [h]; dsimp only; rw [if_pos rfl]; dsimp only; rw [if_pos (inb_nI hk hn), nI_clamp (by omega)]
theorem tR_of {V : VS} {c : ClassId} {q n k : Nat} {f : Nat → Option Nat} (v : Option Nat) (h : V q = some (.inl (c, n, .inr (.inr (.inr (.inr f)))))) (hk : k < n) (hn : n < 2 ^ 31) : tR V c q (nI k) v = some (vU V q (.inl (c, n, .inr (.inr (.inr (.inr (va_up f k v))))))) := by
  unfold tR aR; rw [h]; dsimp only; rw [if_pos rfl]; dsimp only; rw [if_pos (inb_nI hk hn), nI_clamp (by omega)]
theorem tI_of {V : VS} {c : ClassId} {q n k : Nat} {f : Nat → Int32} (v : Int32) (h : V q = some (.inl (c, n, .inl f))) (hk : k < n) (hn : n < 2 ^ 31) : tI V c q (nI k) v = some (vU V q (.inl (c, n, .inl (upd f k v)))) := by
  unfold tI aI; rw [h]; dsimp only; rw [if_pos rfl]; dsimp only; rw [if_pos (inb_nI hk hn), nI_clamp (by omega)]
theorem tJ_of {V : VS} {c : ClassId} {q n k : Nat} {f : Nat → Int64} (v : Int64) (h : V q = some (.inl (c, n, .inr (.inl f)))) (hk : k < n) (hn : n < 2 ^ 31) : tJ V c q (nI k) v = some (vU V q (.inl (c, n, .inr (.inl (vp_updL f k v))))) := by
  unfold tJ aJ; rw [h]; dsimp only; rw [if_pos rfl]; dsimp only; rw [if_pos (inb_nI hk hn), nI_clamp (by omega)]
theorem nA_of {V : VS} {c : ClassId} {q n : Nat} {z : (Nat → Int32) ⊕ (Nat → Int64) ⊕ (Nat → UInt32) ⊕ (Nat → UInt64) ⊕ (Nat → Option Nat)} (h : V q = some (.inl (c, n, z))) : nA V c q = some n := by
  unfold nA; rw [h]; dsimp only; rw [if_pos rfl]
theorem HK.x0 {cA : Nat → ClassId} {x : Nat} {a : Ad} {V : VS} {K : Ka} (h : HK cA x a V K) : gR V [1] x 0 = some (some a.b) := by
  obtain ⟨_, _, _, g⟩ := h.obj
  exact gR_of g rfl rfl
theorem HK.x1 {cA : Nat → ClassId} {x : Nat} {a : Ad} {V : VS} {K : Ka} (h : HK cA x a V K) : gI V [1] x 1 = some (nI K.fed) := by
  obtain ⟨_, _, _, g⟩ := h.obj
  exact gI_of g rfl rfl
theorem HK.x2 {cA : Nat → ClassId} {x : Nat} {a : Ad} {V : VS} {K : Ka} (h : HK cA x a V K) : gI V [1] x 2 = some K.fKind := by
  obtain ⟨_, _, _, g⟩ := h.obj
  exact gI_of g rfl rfl
theorem HK.x3 {cA : Nat → ClassId} {x : Nat} {a : Ad} {V : VS} {K : Ka} (h : HK cA x a V K) : gI V [1] x 3 = some K.fPlace := by
  obtain ⟨_, _, _, g⟩ := h.obj
  exact gI_of g rfl rfl
theorem HK.x4 {cA : Nat → ClassId} {x : Nat} {a : Ad} {V : VS} {K : Ka} (h : HK cA x a V K) : gI V [1] x 4 = some K.heard := by
  obtain ⟨_, _, _, g⟩ := h.obj
  exact gI_of g rfl rfl
theorem HK.x5 {cA : Nat → ClassId} {x : Nat} {a : Ad} {V : VS} {K : Ka} (h : HK cA x a V K) : gI V [1] x 5 = some K.truth := by
  obtain ⟨_, _, _, g⟩ := h.obj
  exact gI_of g rfl rfl
theorem HK.x6 {cA : Nat → ClassId} {x : Nat} {a : Ad} {V : VS} {K : Ka} (h : HK cA x a V K) : gI V [1] x 6 = some (nI K.told) := by
  obtain ⟨_, _, _, g⟩ := h.obj
  exact gI_of g rfl rfl
theorem HK.x7 {cA : Nat → ClassId} {x : Nat} {a : Ad} {V : VS} {K : Ka} (h : HK cA x a V K) : gI V [1] x 7 = some K.were := by
  obtain ⟨_, _, _, g⟩ := h.obj
  exact gI_of g rfl rfl
theorem HK.x8 {cA : Nat → ClassId} {x : Nat} {a : Ad} {V : VS} {K : Ka} (h : HK cA x a V K) : gI V [1] x 8 = some K.isThere := by
  obtain ⟨_, _, _, g⟩ := h.obj
  exact gI_of g rfl rfl
theorem HK.x9 {cA : Nat → ClassId} {x : Nat} {a : Ad} {V : VS} {K : Ka} (h : HK cA x a V K) : gI V [1] x 9 = some K.isNot := by
  obtain ⟨_, _, _, g⟩ := h.obj
  exact gI_of g rfl rfl
theorem HK.x10 {cA : Nat → ClassId} {x : Nat} {a : Ad} {V : VS} {K : Ka} (h : HK cA x a V K) : gR V [1] x 10 = some (some a.r) := by
  obtain ⟨_, _, _, g⟩ := h.obj
  exact gR_of g rfl rfl
theorem HK.x11 {cA : Nat → ClassId} {x : Nat} {a : Ad} {V : VS} {K : Ka} (h : HK cA x a V K) : gR V [1] x 11 = some (some a.c) := by
  obtain ⟨_, _, _, g⟩ := h.obj
  exact gR_of g rfl rfl
theorem HK.x12 {cA : Nat → ClassId} {x : Nat} {a : Ad} {V : VS} {K : Ka} (h : HK cA x a V K) : gR V [1] x 12 = some (some a.n) := by
  obtain ⟨_, _, _, g⟩ := h.obj
  exact gR_of g rfl rfl
theorem HK.x15 {cA : Nat → ClassId} {x : Nat} {a : Ad} {V : VS} {K : Ka} (h : HK cA x a V K) : gR V [1] x 15 = some (some a.ri) := by
  obtain ⟨_, _, _, g⟩ := h.obj
  exact gR_of g rfl rfl
theorem HK.x16 {cA : Nat → ClassId} {x : Nat} {a : Ad} {V : VS} {K : Ka} (h : HK cA x a V K) : gR V [1] x 16 = some (some a.ke) := by
  obtain ⟨_, _, _, g⟩ := h.obj
  exact gR_of g rfl rfl
theorem HK.x18 {cA : Nat → ClassId} {x : Nat} {a : Ad} {V : VS} {K : Ka} (h : HK cA x a V K) : gR V [1] x 18 = some (some a.fi) := by
  obtain ⟨_, _, _, g⟩ := h.obj
  exact gR_of g rfl rfl
theorem HK.x19 {cA : Nat → ClassId} {x : Nat} {a : Ad} {V : VS} {K : Ka} (h : HK cA x a V K) : gR V [1] x 19 = some (some a.la) := by
  obtain ⟨_, _, _, g⟩ := h.obj
  exact gR_of g rfl rfl
theorem HK.x20 {cA : Nat → ClassId} {x : Nat} {a : Ad} {V : VS} {K : Ka} (h : HK cA x a V K) : gR V [1] x 20 = some (some a.pu) := by
  obtain ⟨_, _, _, g⟩ := h.obj
  exact gR_of g rfl rfl
theorem HK.vx {cA : Nat → ClassId} {x : Nat} {a : Ad} {V : VS} {K : Ka} (h : HK cA x a V K) (P : Prop) : bO (vO V [1] x) (fun _ => P) = P := by
  obtain ⟨_, _, _, g⟩ := h.obj
  exact bO_vO g rfl P
theorem HK.c0 {cA : Nat → ClassId} {x : Nat} {a : Ad} {V : VS} {K : Ka} (h : HK cA x a V K) : gR V [3] a.c 0 = some (some a.lT) := by
  obtain ⟨_, g⟩ := h.hr.cas
  exact gR_of g rfl rfl
theorem HK.c1 {cA : Nat → ClassId} {x : Nat} {a : Ad} {V : VS} {K : Ka} (h : HK cA x a V K) : gR V [3] a.c 1 = some (some a.lL) := by
  obtain ⟨_, g⟩ := h.hr.cas
  exact gR_of g rfl rfl
theorem HK.c2 {cA : Nat → ClassId} {x : Nat} {a : Ad} {V : VS} {K : Ka} (h : HK cA x a V K) : gR V [3] a.c 2 = some (some a.lK) := by
  obtain ⟨_, g⟩ := h.hr.cas
  exact gR_of g rfl rfl
theorem HK.c3 {cA : Nat → ClassId} {x : Nat} {a : Ad} {V : VS} {K : Ka} (h : HK cA x a V K) : gR V [3] a.c 3 = some (some a.lP) := by
  obtain ⟨_, g⟩ := h.hr.cas
  exact gR_of g rfl rfl
theorem HK.c4 {cA : Nat → ClassId} {x : Nat} {a : Ad} {V : VS} {K : Ka} (h : HK cA x a V K) : gR V [3] a.c 4 = some (some a.pa) := by
  obtain ⟨_, g⟩ := h.hr.cas
  exact gR_of g rfl rfl
theorem HK.c6 {cA : Nat → ClassId} {x : Nat} {a : Ad} {V : VS} {K : Ka} (h : HK cA x a V K) : gI V [3] a.c 6 = some (nI K.knots) := by
  obtain ⟨_, g⟩ := h.hr.cas
  exact gI_of g rfl rfl
theorem HK.vc {cA : Nat → ClassId} {x : Nat} {a : Ad} {V : VS} {K : Ka} (h : HK cA x a V K) (P : Prop) : bO (vO V [3] a.c) (fun _ => P) = P := by
  obtain ⟨_, g⟩ := h.hr.cas
  exact bO_vO g rfl P
theorem HK.vT {cA : Nat → ClassId} {x : Nat} {a : Ad} {V : VS} {K : Ka} (h : HK cA x a V K) (P : Prop) : bO (vO V [14] a.lT) (fun _ => P) = P := by
  obtain ⟨_, g⟩ := h.hr.liT
  exact bO_vO g rfl P
theorem HK.vL {cA : Nat → ClassId} {x : Nat} {a : Ad} {V : VS} {K : Ka} (h : HK cA x a V K) (P : Prop) : bO (vO V [14] a.lL) (fun _ => P) = P := by
  obtain ⟨_, g⟩ := h.hr.liL
  exact bO_vO g rfl P
theorem HK.vP {cA : Nat → ClassId} {x : Nat} {a : Ad} {V : VS} {K : Ka} (h : HK cA x a V K) (P : Prop) : bO (vO V [14] a.lP) (fun _ => P) = P := by
  obtain ⟨_, g⟩ := h.hr.liP
  exact bO_vO g rfl P
theorem HK.vK {cA : Nat → ClassId} {x : Nat} {a : Ad} {V : VS} {K : Ka} (h : HK cA x a V K) (P : Prop) : bO (vO V [14] a.lK) (fun _ => P) = P := by
  obtain ⟨_, g⟩ := h.hl.liK
  exact bO_vO g rfl P
theorem HK.t0 {cA : Nat → ClassId} {x : Nat} {a : Ad} {V : VS} {K : Ka} (h : HK cA x a V K) {i : Nat} (hi : i < K.nT) : gI V [5] (a.t i) 0 = some (K.tName i) := gI_of (h.hr.thing i hi) rfl rfl
theorem HK.t1 {cA : Nat → ClassId} {x : Nat} {a : Ad} {V : VS} {K : Ka} (h : HK cA x a V K) {i : Nat} (hi : i < K.nT) : gI V [5] (a.t i) 1 = some (K.ways i) := gI_of (h.hr.thing i hi) rfl rfl
theorem HK.t2 {cA : Nat → ClassId} {x : Nat} {a : Ad} {V : VS} {K : Ka} (h : HK cA x a V K) {i : Nat} (hi : i < K.nT) : gI V [5] (a.t i) 2 = some (K.isSo i) := gI_of (h.hr.thing i hi) rfl rfl
theorem HK.t3 {cA : Nat → ClassId} {x : Nat} {a : Ad} {V : VS} {K : Ka} (h : HK cA x a V K) {i : Nat} (hi : i < K.nT) : gI V [5] (a.t i) 3 = some (K.paper i) := gI_of (h.hr.thing i hi) rfl rfl
theorem HK.t4 {cA : Nat → ClassId} {x : Nat} {a : Ad} {V : VS} {K : Ka} (h : HK cA x a V K) {i : Nat} (hi : i < K.nT) : gI V [5] (a.t i) 4 = some (K.police i) := gI_of (h.hr.thing i hi) rfl rfl
theorem HK.vt {cA : Nat → ClassId} {x : Nat} {a : Ad} {V : VS} {K : Ka} (h : HK cA x a V K) {i : Nat} (hi : i < K.nT) (P : Prop) : bO (vO V [5] (a.t i)) (fun _ => P) = P := bO_vO (h.hr.thing i hi) rfl P
theorem HK.l0 {cA : Nat → ClassId} {x : Nat} {a : Ad} {V : VS} {K : Ka} (h : HK cA x a V K) {i : Nat} (hi : i < K.nL) : gI V [6] (a.l i) 0 = some (K.lName i) := gI_of (h.hr.teller i hi) rfl rfl
theorem HK.l1 {cA : Nat → ClassId} {x : Nat} {a : Ad} {V : VS} {K : Ka} (h : HK cA x a V K) {i : Nat} (hi : i < K.nL) : gI V [6] (a.l i) 1 = some (K.age i) := gI_of (h.hr.teller i hi) rfl rfl
theorem HK.l2 {cA : Nat → ClassId} {x : Nat} {a : Ad} {V : VS} {K : Ka} (h : HK cA x a V K) {i : Nat} (hi : i < K.nL) : gI V [6] (a.l i) 2 = some (K.begins i) := gI_of (h.hr.teller i hi) rfl rfl
theorem HK.l3 {cA : Nat → ClassId} {x : Nat} {a : Ad} {V : VS} {K : Ka} (h : HK cA x a V K) {i : Nat} (hi : i < K.nL) : gI V [6] (a.l i) 3 = some (K.ends i) := gI_of (h.hr.teller i hi) rfl rfl
theorem HK.l4 {cA : Nat → ClassId} {x : Nat} {a : Ad} {V : VS} {K : Ka} (h : HK cA x a V K) {i : Nat} (hi : i < K.nL) : gI V [6] (a.l i) 4 = some (K.taped i) := gI_of (h.hr.teller i hi) rfl rfl
theorem HK.vl {cA : Nat → ClassId} {x : Nat} {a : Ad} {V : VS} {K : Ka} (h : HK cA x a V K) {i : Nat} (hi : i < K.nL) (P : Prop) : bO (vO V [6] (a.l i)) (fun _ => P) = P := bO_vO (h.hr.teller i hi) rfl P
theorem HK.p0 {cA : Nat → ClassId} {x : Nat} {a : Ad} {V : VS} {K : Ka} (h : HK cA x a V K) {i : Nat} (hi : i < K.nP) : gI V [9] (a.p i) 0 = some (nI (K.pWho i)) := gI_of (h.hr.page i hi) rfl rfl
theorem HK.p1 {cA : Nat → ClassId} {x : Nat} {a : Ad} {V : VS} {K : Ka} (h : HK cA x a V K) {i : Nat} (hi : i < K.nP) : gI V [9] (a.p i) 1 = some (nI (K.pThing i)) := gI_of (h.hr.page i hi) rfl rfl
theorem HK.p2 {cA : Nat → ClassId} {x : Nat} {a : Ad} {V : VS} {K : Ka} (h : HK cA x a V K) {i : Nat} (hi : i < K.nP) : gI V [9] (a.p i) 2 = some (K.pValue i) := gI_of (h.hr.page i hi) rfl rfl
theorem HK.vp {cA : Nat → ClassId} {x : Nat} {a : Ad} {V : VS} {K : Ka} (h : HK cA x a V K) {i : Nat} (hi : i < K.nP) (P : Prop) : bO (vO V [9] (a.p i)) (fun _ => P) = P := bO_vO (h.hr.page i hi) rfl P
theorem HK.k0 {cA : Nat → ClassId} {x : Nat} {a : Ad} {V : VS} {K : Ka} (h : HK cA x a V K) {i : Nat} (hi : i < K.nK) : gR V [7, 8] (a.k i) 0 = some (some (a.l (K.who i))) := gR_of (h.hl.line i hi) (by cases K.isW i <;> rfl) rfl
theorem HK.w0 {cA : Nat → ClassId} {x : Nat} {a : Ad} {V : VS} {K : Ka} (h : HK cA x a V K) {i : Nat} (hi : i < K.nK) (hw : K.isW i = true) : gR V [7] (a.k i) 0 = some (some (a.l (K.who i))) := gR_of (h.hl.line i hi) (by rw [hw]; rfl) rfl
theorem HK.k1 {cA : Nat → ClassId} {x : Nat} {a : Ad} {V : VS} {K : Ka} (h : HK cA x a V K) {i : Nat} (hi : i < K.nK) : gR V [7, 8] (a.k i) 1 = some (some (a.t (K.thing i))) := gR_of (h.hl.line i hi) (by cases K.isW i <;> rfl) rfl
theorem HK.w1 {cA : Nat → ClassId} {x : Nat} {a : Ad} {V : VS} {K : Ka} (h : HK cA x a V K) {i : Nat} (hi : i < K.nK) (hw : K.isW i = true) : gR V [7] (a.k i) 1 = some (some (a.t (K.thing i))) := gR_of (h.hl.line i hi) (by rw [hw]; rfl) rfl
theorem HK.k2 {cA : Nat → ClassId} {x : Nat} {a : Ad} {V : VS} {K : Ka} (h : HK cA x a V K) {i : Nat} (hi : i < K.nK) : gI V [7, 8] (a.k i) 2 = some (nI (K.who i)) := gI_of (h.hl.line i hi) (by cases K.isW i <;> rfl) rfl
theorem HK.w2 {cA : Nat → ClassId} {x : Nat} {a : Ad} {V : VS} {K : Ka} (h : HK cA x a V K) {i : Nat} (hi : i < K.nK) (hw : K.isW i = true) : gI V [7] (a.k i) 2 = some (nI (K.who i)) := gI_of (h.hl.line i hi) (by rw [hw]; rfl) rfl
theorem HK.k3 {cA : Nat → ClassId} {x : Nat} {a : Ad} {V : VS} {K : Ka} (h : HK cA x a V K) {i : Nat} (hi : i < K.nK) : gI V [7, 8] (a.k i) 3 = some (nI (K.thing i)) := gI_of (h.hl.line i hi) (by cases K.isW i <;> rfl) rfl
theorem HK.w3 {cA : Nat → ClassId} {x : Nat} {a : Ad} {V : VS} {K : Ka} (h : HK cA x a V K) {i : Nat} (hi : i < K.nK) (hw : K.isW i = true) : gI V [7] (a.k i) 3 = some (nI (K.thing i)) := gI_of (h.hl.line i hi) (by rw [hw]; rfl) rfl
theorem HK.k4 {cA : Nat → ClassId} {x : Nat} {a : Ad} {V : VS} {K : Ka} (h : HK cA x a V K) {i : Nat} (hi : i < K.nK) : gI V [7, 8] (a.k i) 4 = some (K.hour i) := gI_of (h.hl.line i hi) (by cases K.isW i <;> rfl) rfl
theorem HK.w4 {cA : Nat → ClassId} {x : Nat} {a : Ad} {V : VS} {K : Ka} (h : HK cA x a V K) {i : Nat} (hi : i < K.nK) (hw : K.isW i = true) : gI V [7] (a.k i) 4 = some (K.hour i) := gI_of (h.hl.line i hi) (by rw [hw]; rfl) rfl
theorem HK.k5 {cA : Nat → ClassId} {x : Nat} {a : Ad} {V : VS} {K : Ka} (h : HK cA x a V K) {i : Nat} (hi : i < K.nK) : gI V [7, 8] (a.k i) 5 = some (K.value i) := gI_of (h.hl.line i hi) (by cases K.isW i <;> rfl) rfl
theorem HK.w5 {cA : Nat → ClassId} {x : Nat} {a : Ad} {V : VS} {K : Ka} (h : HK cA x a V K) {i : Nat} (hi : i < K.nK) (hw : K.isW i = true) : gI V [7] (a.k i) 5 = some (K.value i) := gI_of (h.hl.line i hi) (by rw [hw]; rfl) rfl
theorem HK.q5 {cA : Nat → ClassId} {x : Nat} {a : Ad} {V : VS} {K : Ka} (h : HK cA x a V K) {i : Nat} (hi : i < K.nK) (hw : K.isW i = false) : gI V [8] (a.k i) 5 = some (K.value i) := gI_of (h.hl.line i hi) (by rw [hw]; rfl) rfl
theorem HK.vk {cA : Nat → ClassId} {x : Nat} {a : Ad} {V : VS} {K : Ka} (h : HK cA x a V K) {i : Nat} (hi : i < K.nK) (P : Prop) : bO (vO V [7, 8] (a.k i)) (fun _ => P) = P := bO_vO (h.hl.line i hi) (by cases K.isW i <;> rfl) P
theorem HK.vw {cA : Nat → ClassId} {x : Nat} {a : Ad} {V : VS} {K : Ka} (h : HK cA x a V K) {i : Nat} (hi : i < K.nK) (hw : K.isW i = true) (P : Prop) : bO (vO V [7] (a.k i)) (fun _ => P) = P := bO_vO (h.hl.line i hi) (by rw [hw]; rfl) P
/-- a list's length, a list's element -/
theorem q_size {cA : Nat → ClassId} {V : VS} {q e n : Nat} {m : Int32} (h : V q = some (.inr (14, oLi m e n))) (P : Int32 → VS → Prop) : vJ2_size cA q V P = P (nI n) V := by
  unfold vJ2_size
  rw [gI_of (v := nI n) h rfl rfl]
  rfl
theorem q_get {cA : Nat → ClassId} {V : VS} {q e n N k : Nat} {m : Int32} {f : Nat → Option Nat} (h : V q = some (.inr (14, oLi m e n))) (h2 : V e = some (eO cA N f)) (hk : k < n) (hn : n ≤ N) (hN : N < 2 ^ 31) (P : Option Nat → VS → Prop) : vJ2_get cA q (nI k) V P = P (f k) V := by
  unfold vJ2_get wJ11_checkIndex wJ5_checkIndex vJ2_elementData
  rw [gI_of (v := nI n) h rfl rfl, bO_vO h rfl, gR_of (v := e) h rfl rfl, bO_s, bO_s, bO_s, lR_of h2 (by omega) hN, bO_s]
  rw [br_F (eq_false (nI_pos (by omega))), br_T (eq_true (nI_lt hk (by omega)))]
theorem HK.sT {cA : Nat → ClassId} {x : Nat} {a : Ad} {V : VS} {K : Ka} (h : HK cA x a V K) (P : Int32 → VS → Prop) : vJ2_size cA a.lT V P = P (nI K.nT) V := by
  obtain ⟨m, h1⟩ := h.hr.liT
  exact q_size h1 P
theorem HK.sL {cA : Nat → ClassId} {x : Nat} {a : Ad} {V : VS} {K : Ka} (h : HK cA x a V K) (P : Int32 → VS → Prop) : vJ2_size cA a.lL V P = P (nI K.nL) V := by
  obtain ⟨m, h1⟩ := h.hr.liL
  exact q_size h1 P
theorem HK.sP {cA : Nat → ClassId} {x : Nat} {a : Ad} {V : VS} {K : Ka} (h : HK cA x a V K) (P : Int32 → VS → Prop) : vJ2_size cA a.lP V P = P (nI K.nP) V := by
  obtain ⟨m, h1⟩ := h.hr.liP
  exact q_size h1 P
theorem HK.sK {cA : Nat → ClassId} {x : Nat} {a : Ad} {V : VS} {K : Ka} (h : HK cA x a V K) (P : Int32 → VS → Prop) : vJ2_size cA a.lK V P = P (nI K.nK) V := by
  obtain ⟨m, h1⟩ := h.hl.liK
  exact q_size h1 P
theorem HK.gT {cA : Nat → ClassId} {x : Nat} {a : Ad} {V : VS} {K : Ka} (h : HK cA x a V K) {i : Nat} (hi : i < K.nT) (h8 : K.nT ≤ 8) (P : Option Nat → VS → Prop) : vJ2_get cA a.lT (nI i) V P = P (some (a.t i)) V := by
  obtain ⟨m, h1⟩ := h.hr.liT
  obtain ⟨f, h2, h3⟩ := h.hr.arT
  rw [q_get h1 h2 hi h8 (by decide), h3 i hi]
theorem HK.gL {cA : Nat → ClassId} {x : Nat} {a : Ad} {V : VS} {K : Ka} (h : HK cA x a V K) {i : Nat} (hi : i < K.nL) (h8 : K.nL ≤ 5) (P : Option Nat → VS → Prop) : vJ2_get cA a.lL (nI i) V P = P (some (a.l i)) V := by
  obtain ⟨m, h1⟩ := h.hr.liL
  obtain ⟨f, h2, h3⟩ := h.hr.arL
  rw [q_get h1 h2 hi h8 (by decide), h3 i hi]
theorem HK.gP {cA : Nat → ClassId} {x : Nat} {a : Ad} {V : VS} {K : Ka} (h : HK cA x a V K) {i : Nat} (hi : i < K.nP) (h8 : K.nP ≤ 20) (P : Option Nat → VS → Prop) : vJ2_get cA a.lP (nI i) V P = P (some (a.p i)) V := by
  obtain ⟨m, h1⟩ := h.hr.liP
  obtain ⟨f, h2, h3⟩ := h.hr.arP
  rw [q_get h1 h2 hi h8 (by decide), h3 i hi]
theorem HK.gK {cA : Nat → ClassId} {x : Nat} {a : Ad} {V : VS} {K : Ka} (h : HK cA x a V K) {i : Nat} (hi : i < K.nK) (h8 : K.nK ≤ 60) (P : Option Nat → VS → Prop) : vJ2_get cA a.lK (nI i) V P = P (some (a.k i)) V := by
  obtain ⟨m, h1⟩ := h.hl.liK
  obtain ⟨f, h2, h3⟩ := h.hl.arK
  rw [q_get h1 h2 hi h8 (by decide), h3 i hi]
theorem vO78 {cA : Nat → ClassId} {x : Nat} {a : Ad} {V : VS} {K : Ka} (h : HK cA x a V K) {i : Nat} (hi : i < K.nK) : vO V [7, 8] (a.k i) = some (if K.isW i then 7 else 8, oK a K i) := by
  have := h.hl.line i hi
  refine vO_of this ?_
  cases K.isW i <;> rfl
/-- whether a line is a word: by its kind -/
theorem k78 {W : Bool} {A B : Prop} : (((if W then 7 else 8 : Nat) = 7 → A) ∧ (¬ (if W then 7 else 8 : Nat) = 7 → B)) = if W then A else B := by
  cases W
  · exact br_F (eq_false (by decide))
  · exact br_T (eq_true (by decide))
