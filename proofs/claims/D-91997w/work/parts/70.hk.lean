/-! THE HEAP's SIDE: a case (Ka) in SaidSo's cells -/
/-- addresses: of single cells, of things, tellers, lines, pages -/
def Ad : Type := (Nat → Nat) × (Nat → Nat → Nat)
def Ad.c (a : Ad) : Nat := a.1 0
def Ad.r (a : Ad) : Nat := a.1 1
def Ad.lT (a : Ad) : Nat := a.1 2
def Ad.lL (a : Ad) : Nat := a.1 3
def Ad.lK (a : Ad) : Nat := a.1 4
def Ad.lP (a : Ad) : Nat := a.1 5
def Ad.eT (a : Ad) : Nat := a.1 6
def Ad.eL (a : Ad) : Nat := a.1 7
def Ad.eK (a : Ad) : Nat := a.1 8
def Ad.eP (a : Ad) : Nat := a.1 9
def Ad.pa (a : Ad) : Nat := a.1 10
def Ad.b (a : Ad) : Nat := a.1 11
def Ad.n (a : Ad) : Nat := a.1 12
def Ad.ri (a : Ad) : Nat := a.1 13
def Ad.ke (a : Ad) : Nat := a.1 14
def Ad.fi (a : Ad) : Nat := a.1 15
def Ad.la (a : Ad) : Nat := a.1 16
def Ad.pu (a : Ad) : Nat := a.1 17
def Ad.o (a : Ad) : Nat := a.1 18
def Ad.t (a : Ad) : Nat → Nat := a.2 0
def Ad.l (a : Ad) : Nat → Nat := a.2 1
def Ad.k (a : Ad) : Nat → Nat := a.2 2
def Ad.p (a : Ad) : Nat → Nat := a.2 3
/-- a byte, as it is kept -/
def bnr (b : Int32) : Int32 := b.toInt8.toInt32
def eI (cA : Nat → ClassId) (n : Nat) (f : Nat → Int32) : va_E := .inl (cA 0, n, .inl f)
def eB (cA : Nat → ClassId) (f : Nat → Int32) : va_E := .inl (cA 3, 800, .inl f)
def eN (cA : Nat → ClassId) (g : Nat → Int64) : va_E := .inl (cA 2, 10, .inr (.inl g))
def eW (cA : Nat → ClassId) (g : Nat → Int64) : va_E := .inl (cA 2, 1, .inr (.inl g))
def eO (cA : Nat → ClassId) (n : Nat) (f : Nat → Option Nat) : va_E := .inl (cA 4, n, .inr (.inr (.inr (.inr f))))
def eQ (cA : Nat → ClassId) (f : Nat → Option Nat) : va_E := .inl (cA 5, 3, .inr (.inr (.inr (.inr f))))
def oX (a : Ad) (K : Ka) (fo ag : Int64) (nu : Int32) : List Value := [.ref a.b, .int (nI K.fed), .int K.fKind, .int K.fPlace, .int K.heard, .int K.truth, .int (nI K.told), .int K.were, .int K.isThere, .int K.isNot, .ref a.r, .ref a.c, .ref a.n, .long fo, .long ag, .ref a.ri, .ref a.ke, .int nu, .ref a.fi, .ref a.la, .ref a.pu]
def oC (a : Ad) (many : Int32) (kn : Nat) : List Value := [.ref a.lT, .ref a.lL, .ref a.lK, .ref a.lP, .ref a.pa, .int many, .int (nI kn)]
def oLi (mc : Int32) (e : Nat) (n : Nat) : List Value := [.int mc, .ref e, .int (nI n)]
def oT (K : Ka) (i : Nat) : List Value := [.int (K.tName i), .int (K.ways i), .int (K.isSo i), .int (K.paper i), .int (K.police i)]
def oE (K : Ka) (i : Nat) : List Value := [.int (K.lName i), .int (K.age i), .int (K.begins i), .int (K.ends i), .int (K.taped i)]
def oK (a : Ad) (K : Ka) (k : Nat) : List Value := [.ref (a.l (K.who k)), .ref (a.t (K.thing k)), .int (nI (K.who k)), .int (nI (K.thing k)), .int (K.hour k), .int (K.value k)]
def oG (K : Ka) (k : Nat) : List Value := [.int (nI (K.pWho k)), .int (nI (K.pThing k)), .int (K.pValue k)]
/-- the sign of a knot, as it is read -/
def sgC (s : Nat) : Int32 := if s = 3 then 15 else if s = 4 then 14 else if s = 5 then 60 else if s = 6 then 256 else if s = 7 then 61 else if s = 8 then 258 else if s = 9 then 257 else if s = 10 then 62 else if s = 11 then 43 else if s = 12 then 45 else if s = 13 then 42 else 47
/-- P: what lies where; the knot k as a tree at q -/
def HT (P : Nat → va_E → Prop) (K : Ka) : Nat → Nat → Nat → Prop
  | 0, _, _ => False
  | f + 1, k, q => if K.knot k = 0 then P q (.inr (10, [.int (K.kP k)]))
    else if K.knot k = 1 then P q (.inr (11, [.int (nI (K.kA k))]))
    else if K.knot k = 2 then ∃ u, P q (.inr (12, [.ref u])) ∧ HT P K f (K.kA k) u
    else ∃ u v, P q (.inr (13, [.ref u, .int (sgC (K.knot k)), .ref v])) ∧ HT P K f (K.kA k) u ∧ HT P K f (K.kB k) v
/-- the case but for its lines -/
def HR (cA : Nat → ClassId) (a : Ad) (P : Nat → va_E → Prop) (K : Ka) : Prop := (∃ m, P a.c (.inr (3, oC a m K.knots))) ∧ (∃ m, P a.lT (.inr (14, oLi m a.eT K.nT))) ∧ (∃ m, P a.lL (.inr (14, oLi m a.eL K.nL))) ∧ (∃ m, P a.lP (.inr (14, oLi m a.eP K.nP))) ∧ (∃ f, P a.eT (eO cA 8 f) ∧ ∀ i, i < K.nT → f i = some (a.t i)) ∧ (∃ f, P a.eL (eO cA 5 f) ∧ ∀ i, i < K.nL → f i = some (a.l i)) ∧ (∃ f, P a.eP (eO cA 20 f) ∧ ∀ i, i < K.nP → f i = some (a.p i)) ∧ (∀ i, i < K.nT → P (a.t i) (.inr (5, oT K i))) ∧ (∀ i, i < K.nL → P (a.l i) (.inr (6, oE K i))) ∧ (∀ i, i < K.nP → P (a.p i) (.inr (9, oG K i))) ∧ (∃ f, P a.pa (eQ cA f) ∧ ∀ e, e < 3 → (¬ K.first e < K.last e → f e = none) ∧ (K.first e < K.last e → ∃ q, f e = some q ∧ HT P K 70 (K.last e - 1) q))
theorem HR.cas {cA : Nat → ClassId} {a : Ad} {P : Nat → va_E → Prop} {K : Ka} (h : HR cA a P K) : ∃ m, P a.c (.inr (3, oC a m K.knots)) := h.1
theorem HR.liT {cA : Nat → ClassId} {a : Ad} {P : Nat → va_E → Prop} {K : Ka} (h : HR cA a P K) : ∃ m, P a.lT (.inr (14, oLi m a.eT K.nT)) := h.2.1
theorem HR.liL {cA : Nat → ClassId} {a : Ad} {P : Nat → va_E → Prop} {K : Ka} (h : HR cA a P K) : ∃ m, P a.lL (.inr (14, oLi m a.eL K.nL)) := h.2.2.1
theorem HR.liP {cA : Nat → ClassId} {a : Ad} {P : Nat → va_E → Prop} {K : Ka} (h : HR cA a P K) : ∃ m, P a.lP (.inr (14, oLi m a.eP K.nP)) := h.2.2.2.1
theorem HR.arT {cA : Nat → ClassId} {a : Ad} {P : Nat → va_E → Prop} {K : Ka} (h : HR cA a P K) : ∃ f, P a.eT (eO cA 8 f) ∧ ∀ i, i < K.nT → f i = some (a.t i) := h.2.2.2.2.1
theorem HR.arL {cA : Nat → ClassId} {a : Ad} {P : Nat → va_E → Prop} {K : Ka} (h : HR cA a P K) : ∃ f, P a.eL (eO cA 5 f) ∧ ∀ i, i < K.nL → f i = some (a.l i) := h.2.2.2.2.2.1
theorem HR.arP {cA : Nat → ClassId} {a : Ad} {P : Nat → va_E → Prop} {K : Ka} (h : HR cA a P K) : ∃ f, P a.eP (eO cA 20 f) ∧ ∀ i, i < K.nP → f i = some (a.p i) := h.2.2.2.2.2.2.1
theorem HR.thing {cA : Nat → ClassId} {a : Ad} {P : Nat → va_E → Prop} {K : Ka} (h : HR cA a P K) : ∀ i, i < K.nT → P (a.t i) (.inr (5, oT K i)) := h.2.2.2.2.2.2.2.1
theorem HR.teller {cA : Nat → ClassId} {a : Ad} {P : Nat → va_E → Prop} {K : Ka} (h : HR cA a P K) : ∀ i, i < K.nL → P (a.l i) (.inr (6, oE K i)) := h.2.2.2.2.2.2.2.2.1
theorem HR.page {cA : Nat → ClassId} {a : Ad} {P : Nat → va_E → Prop} {K : Ka} (h : HR cA a P K) : ∀ i, i < K.nP → P (a.p i) (.inr (9, oG K i)) := h.2.2.2.2.2.2.2.2.2.1
theorem HR.parts {cA : Nat → ClassId} {a : Ad} {P : Nat → va_E → Prop} {K : Ka} (h : HR cA a P K) : ∃ f, P a.pa (eQ cA f) ∧ ∀ e, e < 3 → (¬ K.first e < K.last e → f e = none) ∧ (K.first e < K.last e → ∃ q, f e = some q ∧ HT P K 70 (K.last e - 1) q) := h.2.2.2.2.2.2.2.2.2.2
/-- its lines -/
def HL (cA : Nat → ClassId) (a : Ad) (P : Nat → va_E → Prop) (K : Ka) : Prop := (∃ m, P a.lK (.inr (14, oLi m a.eK K.nK))) ∧ (∃ f, P a.eK (eO cA 60 f) ∧ ∀ i, i < K.nK → f i = some (a.k i)) ∧ (∀ i, i < K.nK → P (a.k i) (.inr (if K.isW i then 7 else 8, oK a K i)))
theorem HL.liK {cA : Nat → ClassId} {a : Ad} {P : Nat → va_E → Prop} {K : Ka} (h : HL cA a P K) : ∃ m, P a.lK (.inr (14, oLi m a.eK K.nK)) := h.1
theorem HL.arK {cA : Nat → ClassId} {a : Ad} {P : Nat → va_E → Prop} {K : Ka} (h : HL cA a P K) : ∃ f, P a.eK (eO cA 60 f) ∧ ∀ i, i < K.nK → f i = some (a.k i) := h.2.1
theorem HL.line {cA : Nat → ClassId} {a : Ad} {P : Nat → va_E → Prop} {K : Ka} (h : HL cA a P K) : ∀ i, i < K.nK → P (a.k i) (.inr (if K.isW i then 7 else 8, oK a K i)) := h.2.2
/-- scratch: the reader, names, rows of numbers -/
def HS (cA : Nat → ClassId) (x : Nat) (a : Ad) (V : VS) : Prop := (∃ a0 a1 a2 a3 a4 a5 : Int32, ∃ m : Value, V a.r = some (.inr (2, [.int a0, .int a1, .int a2, .int a3, .int a4, .int a5, m, .ref x]))) ∧ (∃ g, V a.n = some (eN cA g)) ∧ (∃ f, V a.ri = some (eI cA 20 f)) ∧ (∃ f, V a.ke = some (eI cA 20 f)) ∧ (∃ f, V a.fi = some (eI cA 8 f)) ∧ (∃ f, V a.la = some (eI cA 8 f)) ∧ (∃ f, V a.pu = some (eI cA 8 f)) ∧ (∃ f, V a.o = some (eW cA f)) ∧ (a.ri ≠ a.ke) ∧ (a.fi ≠ a.la) ∧ (a.fi ≠ a.pu) ∧ (a.la ≠ a.pu)
theorem HS.rea {cA : Nat → ClassId} {x : Nat} {a : Ad} {V : VS} (h : HS cA x a V) : ∃ a0 a1 a2 a3 a4 a5 : Int32, ∃ m : Value, V a.r = some (.inr (2, [.int a0, .int a1, .int a2, .int a3, .int a4, .int a5, m, .ref x])) := h.1
theorem HS.nam {cA : Nat → ClassId} {x : Nat} {a : Ad} {V : VS} (h : HS cA x a V) : ∃ g, V a.n = some (eN cA g) := h.2.1
theorem HS.ris {cA : Nat → ClassId} {x : Nat} {a : Ad} {V : VS} (h : HS cA x a V) : ∃ f, V a.ri = some (eI cA 20 f) := h.2.2.1
theorem HS.key {cA : Nat → ClassId} {x : Nat} {a : Ad} {V : VS} (h : HS cA x a V) : ∃ f, V a.ke = some (eI cA 20 f) := h.2.2.2.1
theorem HS.fir {cA : Nat → ClassId} {x : Nat} {a : Ad} {V : VS} (h : HS cA x a V) : ∃ f, V a.fi = some (eI cA 8 f) := h.2.2.2.2.1
theorem HS.law {cA : Nat → ClassId} {x : Nat} {a : Ad} {V : VS} (h : HS cA x a V) : ∃ f, V a.la = some (eI cA 8 f) := h.2.2.2.2.2.1
theorem HS.put {cA : Nat → ClassId} {x : Nat} {a : Ad} {V : VS} (h : HS cA x a V) : ∃ f, V a.pu = some (eI cA 8 f) := h.2.2.2.2.2.2.1
theorem HS.out {cA : Nat → ClassId} {x : Nat} {a : Ad} {V : VS} (h : HS cA x a V) : ∃ f, V a.o = some (eW cA f) := h.2.2.2.2.2.2.2.1
theorem HS.d1 {cA : Nat → ClassId} {x : Nat} {a : Ad} {V : VS} (h : HS cA x a V) : a.ri ≠ a.ke := h.2.2.2.2.2.2.2.2.1
theorem HS.d2 {cA : Nat → ClassId} {x : Nat} {a : Ad} {V : VS} (h : HS cA x a V) : a.fi ≠ a.la := h.2.2.2.2.2.2.2.2.2.1
theorem HS.d3 {cA : Nat → ClassId} {x : Nat} {a : Ad} {V : VS} (h : HS cA x a V) : a.fi ≠ a.pu := h.2.2.2.2.2.2.2.2.2.2.1
theorem HS.d4 {cA : Nat → ClassId} {x : Nat} {a : Ad} {V : VS} (h : HS cA x a V) : a.la ≠ a.pu := h.2.2.2.2.2.2.2.2.2.2.2
def HK (cA : Nat → ClassId) (x : Nat) (a : Ad) (V : VS) (K : Ka) : Prop := (∃ fo ag nu, V x = some (.inr (1, oX a K fo ag nu))) ∧ (∃ f, V a.b = some (eB cA f) ∧ ∀ j, j < K.fed → f j = bnr (K.byte j)) ∧ (HR cA a (fun b e => V b = some e) K) ∧ (HL cA a (fun b e => V b = some e) K) ∧ (HS cA x a V)
theorem HK.obj {cA : Nat → ClassId} {x : Nat} {a : Ad} {V : VS} {K : Ka} (h : HK cA x a V K) : ∃ fo ag nu, V x = some (.inr (1, oX a K fo ag nu)) := h.1
theorem HK.byt {cA : Nat → ClassId} {x : Nat} {a : Ad} {V : VS} {K : Ka} (h : HK cA x a V K) : ∃ f, V a.b = some (eB cA f) ∧ ∀ j, j < K.fed → f j = bnr (K.byte j) := h.2.1
theorem HK.hr {cA : Nat → ClassId} {x : Nat} {a : Ad} {V : VS} {K : Ka} (h : HK cA x a V K) : HR cA a (fun b e => V b = some e) K := h.2.2.1
theorem HK.hl {cA : Nat → ClassId} {x : Nat} {a : Ad} {V : VS} {K : Ka} (h : HK cA x a V K) : HL cA a (fun b e => V b = some e) K := h.2.2.2.1
theorem HK.hs {cA : Nat → ClassId} {x : Nat} {a : Ad} {V : VS} {K : Ka} (h : HK cA x a V K) : HS cA x a V := h.2.2.2.2
theorem HT.mono {P Q : Nat → va_E → Prop} {K : Ka} (h : ∀ b e, P b e → Q b e) : ∀ {f k q : Nat}, HT P K f k q → HT Q K f k q
  | 0, _, _, g => g.elim
  | f + 1, k, q, g => by
    unfold HT at g ⊢
    by_cases c0 : K.knot k = 0
    · rw [if_pos c0] at g ⊢; exact h _ _ g
    rw [if_neg c0] at g ⊢
    by_cases c1 : K.knot k = 1
    · rw [if_pos c1] at g ⊢; exact h _ _ g
    rw [if_neg c1] at g ⊢
    by_cases c2 : K.knot k = 2
    · rw [if_pos c2] at g ⊢
      obtain ⟨u, g1, g2⟩ := g
      exact ⟨u, h _ _ g1, HT.mono h g2⟩
    rw [if_neg c2] at g ⊢
    obtain ⟨u, v, g1, g2, g3⟩ := g
    exact ⟨u, v, h _ _ g1, HT.mono h g2, HT.mono h g3⟩
theorem HR.mono {cA : Nat → ClassId} {a : Ad} {P Q : Nat → va_E → Prop} {K : Ka} (h : ∀ b e, P b e → Q b e) (g : HR cA a P K) : HR cA a Q K := by
  obtain ⟨⟨m0, a0⟩, ⟨m1, a1⟩, ⟨m2, a2⟩, ⟨m3, a3⟩, ⟨f1, b1, c1⟩, ⟨f2, b2, c2⟩, ⟨f3, b3, c3⟩, d1, d2, d3, f4, b4, c4⟩ := g
  exact ⟨⟨m0, h _ _ a0⟩, ⟨m1, h _ _ a1⟩, ⟨m2, h _ _ a2⟩, ⟨m3, h _ _ a3⟩, ⟨f1, h _ _ b1, c1⟩, ⟨f2, h _ _ b2, c2⟩, ⟨f3, h _ _ b3, c3⟩, fun i hi => h _ _ (d1 i hi), fun i hi => h _ _ (d2 i hi), fun i hi => h _ _ (d3 i hi), f4, h _ _ b4, fun e he => ⟨(c4 e he).1, fun hl => by
    obtain ⟨q, q1, q2⟩ := (c4 e he).2 hl
    exact ⟨q, q1, q2.mono h⟩⟩⟩
theorem HL.mono {cA : Nat → ClassId} {a : Ad} {P Q : Nat → va_E → Prop} {K : Ka} (h : ∀ b e, P b e → Q b e) (g : HL cA a P K) : HL cA a Q K := by
  obtain ⟨⟨m0, a0⟩, ⟨f1, b1, c1⟩, d1⟩ := g
  exact ⟨⟨m0, h _ _ a0⟩, ⟨f1, h _ _ b1, c1⟩, fun i hi => h _ _ (d1 i hi)⟩
/-- a kind that is no scratch: objects but for SaidSo and the reader, rows of references -/
def kpE (e : va_E) : Prop := match e with
  | .inr o => o.1 ≠ 1 ∧ o.1 ≠ 2
  | .inl (_, _, .inr (.inr _)) => True
  | _ => False
theorem kpk {c : Nat} {l : List Value} (h : c ≠ 1 ∧ c ≠ 2) : kpE (.inr (c, l)) := h
theorem HT.kp {P : Nat → va_E → Prop} {K : Ka} : ∀ {f k q : Nat}, HT P K f k q → HT (fun b e => P b e ∧ kpE e) K f k q
  | 0, _, _, g => g.elim
  | f + 1, k, q, g => by
    unfold HT at g ⊢
    by_cases c0 : K.knot k = 0
    · rw [if_pos c0] at g ⊢; exact ⟨g, kpk (by decide)⟩
    rw [if_neg c0] at g ⊢
    by_cases c1 : K.knot k = 1
    · rw [if_pos c1] at g ⊢; exact ⟨g, kpk (by decide)⟩
    rw [if_neg c1] at g ⊢
    by_cases c2 : K.knot k = 2
    · rw [if_pos c2] at g ⊢
      obtain ⟨u, g1, g2⟩ := g
      exact ⟨u, ⟨g1, kpk (by decide)⟩, HT.kp g2⟩
    rw [if_neg c2] at g ⊢
    obtain ⟨u, v, g1, g2, g3⟩ := g
    exact ⟨u, v, ⟨g1, kpk (by decide)⟩, HT.kp g2, HT.kp g3⟩
theorem HR.kp {cA : Nat → ClassId} {a : Ad} {P : Nat → va_E → Prop} {K : Ka} (g : HR cA a P K) : HR cA a (fun b e => P b e ∧ kpE e) K := by
  obtain ⟨⟨m0, a0⟩, ⟨m1, a1⟩, ⟨m2, a2⟩, ⟨m3, a3⟩, ⟨f1, b1, c1⟩, ⟨f2, b2, c2⟩, ⟨f3, b3, c3⟩, d1, d2, d3, f4, b4, c4⟩ := g
  exact ⟨⟨m0, a0, kpk (by decide)⟩, ⟨m1, a1, kpk (by decide)⟩, ⟨m2, a2, kpk (by decide)⟩, ⟨m3, a3, kpk (by decide)⟩, ⟨f1, ⟨b1, trivial⟩, c1⟩, ⟨f2, ⟨b2, trivial⟩, c2⟩, ⟨f3, ⟨b3, trivial⟩, c3⟩, fun i hi => ⟨d1 i hi, kpk (by decide)⟩, fun i hi => ⟨d2 i hi, kpk (by decide)⟩, fun i hi => ⟨d3 i hi, kpk (by decide)⟩, f4, ⟨b4, trivial⟩, fun e he => ⟨(c4 e he).1, fun hl => by
    obtain ⟨q, q1, q2⟩ := (c4 e he).2 hl
    exact ⟨q, q1, q2.kp⟩⟩⟩
theorem HL.kp {cA : Nat → ClassId} {a : Ad} {P : Nat → va_E → Prop} {K : Ka} (g : HL cA a P K) : HL cA a (fun b e => P b e ∧ kpE e) K := by
  obtain ⟨⟨m0, a0⟩, ⟨f1, b1, c1⟩, d1⟩ := g
  refine ⟨⟨m0, a0, kpk (by decide)⟩, ⟨f1, ⟨b1, trivial⟩, c1⟩, fun i hi => ⟨d1 i hi, ?_⟩⟩
  cases K.isW i <;> exact kpk (by decide)
/-- scratch cells change, the rest stays -/
theorem HK.scr {cA : Nat → ClassId} {x : Nat} {a : Ad} {V V' : VS} {K K' : Ka} (h : HK cA x a V K) (hf : ∀ b e, V b = some e → kpE e → V' b = some e) (hb : ∃ f, V' a.b = some (eB cA f) ∧ ∀ j, j < K'.fed → f j = bnr (K'.byte j)) (ho : ∃ fo ag nu, V' x = some (.inr (1, oX a K' fo ag nu))) (hs : HS cA x a V') (e1 : HR cA a (fun b e => V' b = some e) K → HR cA a (fun b e => V' b = some e) K') (e2 : HL cA a (fun b e => V' b = some e) K → HL cA a (fun b e => V' b = some e) K') : HK cA x a V' K' :=
  ⟨ho, hb, e1 (h.hr.kp.mono (fun b e g => hf b e g.1 g.2)), e2 (h.hl.kp.mono (fun b e g => hf b e g.1 g.2)), hs⟩
/-- a cell's kind and length -/
def eTag (e : va_E) : Nat := match e with
  | .inl (_, n, .inl _) => 4 * n
  | .inl (_, n, .inr (.inl _)) => 4 * n + 1
  | .inl (_, n, .inr (.inr _)) => 4 * n + 2
  | .inr o => 4 * o.1 + 3
theorem tg {d e : va_E} (h : Nat.beq (eTag d) (eTag e) = false) : d ≠ e := fun q => by
  subst q
  rw [show Nat.beq (eTag d) (eTag d) = true from Nat.beq_refl _] at h
  cases h
def eTg (e : va_E) : Nat := match e with
  | .inl (_, _, .inl _) => 0
  | .inl (_, _, .inr (.inl _)) => 1
  | .inl (_, _, .inr (.inr _)) => 2
  | .inr _ => 3
theorem tg2 {d e : va_E} (h : Nat.beq (eTg d) (eTg e) = false) : d ≠ e := fun q => by
  subst q
  rw [show Nat.beq (eTg d) (eTg d) = true from Nat.beq_refl _] at h
  cases h
theorem inr_inl {o : Nat × List Value} {y : ClassId × vp_A} : (Sum.inr o : va_E) ≠ .inl y := fun q => by cases q
theorem inr_k {c d : Nat} {l l' : List Value} (h : c ≠ d) : (Sum.inr (c, l) : va_E) ≠ .inr (d, l') := fun q => by
  cases q
  exact h rfl
/-- two cells with other contents are two cells -/
theorem va_ne {V : VS} {a b : Nat} {d e : va_E} (h1 : V a = some d) (h2 : V b = some e) (h : d ≠ e) : a ≠ b := fun q => h (by
  rw [q, h2] at h1
  exact (Option.some.inj h1).symm)
theorem HK.setX {cA : Nat → ClassId} {x : Nat} {a : Ad} {V : VS} {K K' : Ka} {fo ag : Int64} {nu : Int32} (h : HK cA x a V K) (e1 : K'.fed = K.fed) (e2 : K'.byte = K.byte) (e3 : ∀ P, HR cA a P K → HR cA a P K') (e4 : ∀ P, HL cA a P K → HL cA a P K') : HK cA x a (vU V x (.inr (1, oX a K' fo ag nu))) K' := by
  obtain ⟨fo0, ag0, nu0, hx⟩ := h.obj
  have o : ∀ {b : Nat} {e : va_E}, V b = some e → (∀ l, e ≠ .inr (1, l)) → vU V x (.inr (1, oX a K' fo ag nu)) b = some e := fun {b e} g1 g2 => by
    rw [vU_n _ _ (va_ne g1 hx (g2 _))]; exact g1
  obtain ⟨f, b1, b2⟩ := h.byt
  obtain ⟨⟨r0, r1, r2, r3, r4, r5, m, r⟩, ⟨g, n⟩, ⟨f1, s1⟩, ⟨f2, s2⟩, ⟨f3, s3⟩, ⟨f4, s4⟩, ⟨f5, s5⟩, ⟨f6, s6⟩, d⟩ := h.hs
  refine h.scr (fun b e g1 g2 => o g1 (fun l q => ?_)) ⟨f, o b1 (fun l => tg rfl), by rw [e1, e2]; exact b2⟩ ⟨fo, ag, nu, vU_s _ _ _⟩ ⟨⟨r0, r1, r2, r3, r4, r5, m, o r (fun l => tg rfl)⟩, ⟨g, o n (fun l => tg rfl)⟩, ⟨f1, o s1 (fun l => tg rfl)⟩, ⟨f2, o s2 (fun l => tg rfl)⟩, ⟨f3, o s3 (fun l => tg rfl)⟩, ⟨f4, o s4 (fun l => tg rfl)⟩, ⟨f5, o s5 (fun l => tg rfl)⟩, ⟨f6, o s6 (fun l => tg rfl)⟩, d⟩ (e3 _) (e4 _)
  rw [q] at g2
  exact g2.1 rfl
theorem vU_vU (V : VS) (a : Nat) (e e' : va_E) : vU (vU V a e) a e' = vU V a e' := by
  funext b
  unfold vU
  split <;> rfl
theorem vU_comm (V : VS) {a b : Nat} (e e' : va_E) (h : a ≠ b) : vU (vU V a e) b e' = vU (vU V b e') a e := by
  funext c
  unfold vU
  by_cases h1 : c = a
  · by_cases h2 : c = b
    · exact absurd (h1.symm.trans h2) h
    · rw [if_neg h2, if_pos h1, if_pos h1]
  · by_cases h2 : c = b
    · rw [if_pos h2, if_neg h1, if_pos h2]
    · rw [if_neg h2, if_neg h1, if_neg h1, if_neg h2]
/-- names change -/
theorem HK.nam {cA : Nat → ClassId} {x : Nat} {a : Ad} {V : VS} {K : Ka} (h : HK cA x a V K) (g : Nat → Int64) : HK cA x a (vU V a.n (eN cA g)) K := by
  obtain ⟨fo0, ag0, nu0, hx⟩ := h.obj
  obtain ⟨f, b1, b2⟩ := h.byt
  obtain ⟨⟨r0, r1, r2, r3, r4, r5, m, r⟩, ⟨g0, n⟩, ⟨f1, s1⟩, ⟨f2, s2⟩, ⟨f3, s3⟩, ⟨f4, s4⟩, ⟨f5, s5⟩, ⟨f6, s6⟩, d⟩ := h.hs
  have o : ∀ {b : Nat} {e : va_E}, V b = some e → (∀ g, e ≠ eN cA g) → vU V a.n (eN cA g) b = some e := fun {b e} g1 g2 => by
    rw [vU_n _ _ (va_ne g1 n (g2 _))]; exact g1
  refine h.scr (fun b e g1 g2 => o g1 (fun l q => ?_)) ⟨f, o b1 (fun l => tg rfl), b2⟩ ⟨_, _, _, o hx (fun l => tg rfl)⟩ ⟨⟨r0, r1, r2, r3, r4, r5, m, o r (fun l => tg rfl)⟩, ⟨g, vU_s _ _ _⟩, ⟨f1, o s1 (fun l => tg rfl)⟩, ⟨f2, o s2 (fun l => tg rfl)⟩, ⟨f3, o s3 (fun l => tg rfl)⟩, ⟨f4, o s4 (fun l => tg rfl)⟩, ⟨f5, o s5 (fun l => tg rfl)⟩, ⟨f6, o s6 (fun l => tg rfl)⟩, d⟩ id id
  rw [q] at g2
  exact g2
/-- a row of numbers changes: at an address that holds one -/
theorem HK.row {cA : Nat → ClassId} {x : Nat} {a : Ad} {V : VS} {K : Ka} {w n : Nat} (h : HK cA x a V K) (hn : n ≤ 20) {f0 : Nat → Int32} (hw : V w = some (eI cA n f0)) (f' : Nat → Int32) : HK cA x a (vU V w (eI cA n f')) K := by
  obtain ⟨fo0, ag0, nu0, hx⟩ := h.obj
  obtain ⟨f, b1, b2⟩ := h.byt
  obtain ⟨⟨r0, r1, r2, r3, r4, r5, m, r⟩, ⟨g0, nn⟩, ⟨f1, s1⟩, ⟨f2, s2⟩, ⟨f3, s3⟩, ⟨f4, s4⟩, ⟨f5, s5⟩, ⟨f6, s6⟩, d⟩ := h.hs
  have o : ∀ {b : Nat} {e : va_E}, V b = some e → (∀ g, e ≠ eI cA n g) → vU V w (eI cA n f') b = some e := fun {b e} g1 g2 => by
    rw [vU_n _ _ (va_ne g1 hw (g2 _))]; exact g1
  have p : ∀ {b N : Nat} {f : Nat → Int32}, V b = some (eI cA N f) → ∃ f, vU V w (eI cA n f') b = some (eI cA N f) := fun {b N f} g1 => by
    by_cases q : b = w
    · rw [q] at g1 ⊢
      rw [hw] at g1
      cases g1
      exact ⟨f', vU_s _ _ _⟩
    · exact ⟨f, by rw [vU_n _ _ q]; exact g1⟩
  refine h.scr (fun b e g1 g2 => o g1 (fun l q => ?_)) ⟨f, o b1 (fun l q => ?_), b2⟩ ⟨_, _, _, o hx (fun l => tg2 rfl)⟩ ⟨⟨r0, r1, r2, r3, r4, r5, m, o r (fun l => tg2 rfl)⟩, ⟨g0, o nn (fun l => tg2 rfl)⟩, p s1, p s2, p s3, p s4, p s5, ⟨f6, o s6 (fun l => tg2 rfl)⟩, d⟩ id id
  · rw [q] at g2
    exact g2
  · have := congrArg eTag q
    have : 4 * 800 = 4 * n := this
    omega
