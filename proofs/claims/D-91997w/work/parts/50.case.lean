/-! PLAIN PART: what a case is (Ka), the reference's record as a case (MK) -/
/-- a case: numbers of things, tellers, lines, pages, knots, told lines, bytes fed; what was laid; rows of numbers -/
def Ka : Type := (Nat → Nat) × (Nat → Int32) × (Nat → Nat → Nat) × (Nat → Nat → Int32)
def Ka.nT (K : Ka) : Nat := K.1 0
def Ka.nL (K : Ka) : Nat := K.1 1
def Ka.nK (K : Ka) : Nat := K.1 2
def Ka.nP (K : Ka) : Nat := K.1 3
def Ka.knots (K : Ka) : Nat := K.1 4
def Ka.told (K : Ka) : Nat := K.1 5
def Ka.fed (K : Ka) : Nat := K.1 6
def Ka.heard (K : Ka) : Int32 := K.2.1 0
def Ka.were (K : Ka) : Int32 := K.2.1 1
def Ka.truth (K : Ka) : Int32 := K.2.1 2
def Ka.isThere (K : Ka) : Int32 := K.2.1 3
def Ka.isNot (K : Ka) : Int32 := K.2.1 4
def Ka.fKind (K : Ka) : Int32 := K.2.1 5
def Ka.fPlace (K : Ka) : Int32 := K.2.1 6
def Ka.who (K : Ka) : Nat → Nat := K.2.2.1 0
def Ka.thing (K : Ka) : Nat → Nat := K.2.2.1 1
def Ka.pWho (K : Ka) : Nat → Nat := K.2.2.1 2
def Ka.pThing (K : Ka) : Nat → Nat := K.2.2.1 3
def Ka.wd (K : Ka) : Nat → Nat := K.2.2.1 4
def Ka.first (K : Ka) : Nat → Nat := K.2.2.1 5
def Ka.last (K : Ka) : Nat → Nat := K.2.2.1 6
def Ka.knot (K : Ka) : Nat → Nat := K.2.2.1 7
def Ka.kA (K : Ka) : Nat → Nat := K.2.2.1 8
def Ka.kB (K : Ka) : Nat → Nat := K.2.2.1 9
def Ka.tName (K : Ka) : Nat → Int32 := K.2.2.2 0
def Ka.ways (K : Ka) : Nat → Int32 := K.2.2.2 1
def Ka.isSo (K : Ka) : Nat → Int32 := K.2.2.2 2
def Ka.paper (K : Ka) : Nat → Int32 := K.2.2.2 3
def Ka.police (K : Ka) : Nat → Int32 := K.2.2.2 4
def Ka.lName (K : Ka) : Nat → Int32 := K.2.2.2 5
def Ka.age (K : Ka) : Nat → Int32 := K.2.2.2 6
def Ka.begins (K : Ka) : Nat → Int32 := K.2.2.2 7
def Ka.ends (K : Ka) : Nat → Int32 := K.2.2.2 8
def Ka.taped (K : Ka) : Nat → Int32 := K.2.2.2 9
def Ka.hour (K : Ka) : Nat → Int32 := K.2.2.2 10
def Ka.value (K : Ka) : Nat → Int32 := K.2.2.2 11
def Ka.pValue (K : Ka) : Nat → Int32 := K.2.2.2 12
def Ka.kP (K : Ka) : Nat → Int32 := K.2.2.2 13
def Ka.kO (K : Ka) : Nat → Int32 := K.2.2.2 14
def Ka.byte (K : Ka) : Nat → Int32 := K.2.2.2 15
def Ka.isW (K : Ka) (k : Nat) : Bool := K.wd k == 1
def bI (b : Bool) : Int32 := if b then 1 else 0
theorem bI_t : bI true = 1 := rfl
theorem bI_f : bI false = 0 := rfl
theorem bI_0 {b : Bool} : bI b = 0 ↔ b = false := by cases b <;> decide
/-- the bounds of a case -/
def KO (K : Ka) : Prop := (K.nT ≤ 8) ∧ (K.nL ≤ 5) ∧ (K.nK ≤ 60) ∧ (K.nP ≤ 20) ∧ (∀ k, k < K.nK → K.who k < K.nL) ∧ (∀ k, k < K.nK → K.thing k < K.nT) ∧ (∀ k, k < K.nP → K.pWho k < K.nL) ∧ (∀ k, k < K.nP → K.pThing k < K.nT) ∧ (∀ t, t < K.nT → 2 ≤ K.ways t ∧ K.ways t ≤ 9) ∧ (∀ t, t < K.nT → 0 ≤ K.isSo t ∧ K.isSo t < K.ways t) ∧ (∀ k, k < K.nK → (-1 ≤ K.value k ∧ K.value k < K.ways (K.thing k)) ∧ (K.isW k = true → 0 ≤ K.value k)) ∧ (∀ t, t < K.nL → 0 ≤ K.begins t ∧ K.begins t ≤ K.ends t ∧ K.ends t ≤ 199) ∧ (∀ t, t < K.nL → K.taped t = -1 ∨ K.begins t ≤ K.taped t ∧ K.taped t ≤ K.ends t) ∧ (∀ t, t < K.nT → -1 ≤ K.paper t ∧ K.paper t ≤ 199) ∧ (∀ t, t < K.nT → -1 ≤ K.police t ∧ K.police t ≤ 199) ∧ (∀ k, k < K.nK → K.begins (K.who k) ≤ K.hour k ∧ K.hour k ≤ K.ends (K.who k)) ∧ (K.knots ≤ 64) ∧ (K.told ≤ K.nK) ∧ (K.fed ≤ 800) ∧ (∀ j, 0 ≤ K.byte j ∧ K.byte j ≤ 255) ∧ (0 ≤ K.heard ∧ K.heard ≤ 199) ∧ (1 ≤ K.truth ∧ K.truth ≤ 9) ∧ (1 ≤ K.isThere ∧ K.isThere ≤ 99) ∧ (1 ≤ K.isNot ∧ K.isNot ≤ 99) ∧ (∀ e, e < 3 → K.first e ≤ K.last e ∧ K.last e ≤ K.knots) ∧ (∀ e k, e < 3 → K.first e ≤ k → k < K.last e → K.knot k ≤ 14 ∧ (K.knot k = 1 → K.kP k = nI (K.kA k) ∧ K.kA k < 10) ∧ (2 ≤ K.knot k → K.kP k = nI (K.kA k) ∧ K.first e ≤ K.kA k ∧ K.kA k < k) ∧ (3 ≤ K.knot k → K.kO k = nI (K.kB k) ∧ K.first e ≤ K.kB k ∧ K.kB k < k)) ∧ (∀ e k, e < 3 → K.first e ≤ k → k + 1 < K.last e → ∃ j, k < j ∧ j < K.last e ∧ (2 ≤ K.knot j ∧ K.kA j = k ∨ 3 ≤ K.knot j ∧ K.kB j = k))
theorem KO.nT {K : Ka} (h : KO K) : K.nT ≤ 8 := h.1
theorem KO.nL {K : Ka} (h : KO K) : K.nL ≤ 5 := h.2.1
theorem KO.nK {K : Ka} (h : KO K) : K.nK ≤ 60 := h.2.2.1
theorem KO.nP {K : Ka} (h : KO K) : K.nP ≤ 20 := h.2.2.2.1
theorem KO.who {K : Ka} (h : KO K) : ∀ k, k < K.nK → K.who k < K.nL := h.2.2.2.2.1
theorem KO.thing {K : Ka} (h : KO K) : ∀ k, k < K.nK → K.thing k < K.nT := h.2.2.2.2.2.1
theorem KO.pWho {K : Ka} (h : KO K) : ∀ k, k < K.nP → K.pWho k < K.nL := h.2.2.2.2.2.2.1
theorem KO.pThing {K : Ka} (h : KO K) : ∀ k, k < K.nP → K.pThing k < K.nT := h.2.2.2.2.2.2.2.1
theorem KO.ways {K : Ka} (h : KO K) : ∀ t, t < K.nT → 2 ≤ K.ways t ∧ K.ways t ≤ 9 := h.2.2.2.2.2.2.2.2.1
theorem KO.isSo {K : Ka} (h : KO K) : ∀ t, t < K.nT → 0 ≤ K.isSo t ∧ K.isSo t < K.ways t := h.2.2.2.2.2.2.2.2.2.1
theorem KO.value {K : Ka} (h : KO K) : ∀ k, k < K.nK → (-1 ≤ K.value k ∧ K.value k < K.ways (K.thing k)) ∧ (K.isW k = true → 0 ≤ K.value k) := h.2.2.2.2.2.2.2.2.2.2.1
theorem KO.begins {K : Ka} (h : KO K) : ∀ t, t < K.nL → 0 ≤ K.begins t ∧ K.begins t ≤ K.ends t ∧ K.ends t ≤ 199 := h.2.2.2.2.2.2.2.2.2.2.2.1
theorem KO.taped {K : Ka} (h : KO K) : ∀ t, t < K.nL → K.taped t = -1 ∨ K.begins t ≤ K.taped t ∧ K.taped t ≤ K.ends t := h.2.2.2.2.2.2.2.2.2.2.2.2.1
theorem KO.paper {K : Ka} (h : KO K) : ∀ t, t < K.nT → -1 ≤ K.paper t ∧ K.paper t ≤ 199 := h.2.2.2.2.2.2.2.2.2.2.2.2.2.1
theorem KO.police {K : Ka} (h : KO K) : ∀ t, t < K.nT → -1 ≤ K.police t ∧ K.police t ≤ 199 := h.2.2.2.2.2.2.2.2.2.2.2.2.2.2.1
theorem KO.hour {K : Ka} (h : KO K) : ∀ k, k < K.nK → K.begins (K.who k) ≤ K.hour k ∧ K.hour k ≤ K.ends (K.who k) := h.2.2.2.2.2.2.2.2.2.2.2.2.2.2.2.1
theorem KO.knots {K : Ka} (h : KO K) : K.knots ≤ 64 := h.2.2.2.2.2.2.2.2.2.2.2.2.2.2.2.2.1
theorem KO.told {K : Ka} (h : KO K) : K.told ≤ K.nK := h.2.2.2.2.2.2.2.2.2.2.2.2.2.2.2.2.2.1
theorem KO.fed {K : Ka} (h : KO K) : K.fed ≤ 800 := h.2.2.2.2.2.2.2.2.2.2.2.2.2.2.2.2.2.2.1
theorem KO.byte {K : Ka} (h : KO K) : ∀ j, 0 ≤ K.byte j ∧ K.byte j ≤ 255 := h.2.2.2.2.2.2.2.2.2.2.2.2.2.2.2.2.2.2.2.1
theorem KO.heard {K : Ka} (h : KO K) : 0 ≤ K.heard ∧ K.heard ≤ 199 := h.2.2.2.2.2.2.2.2.2.2.2.2.2.2.2.2.2.2.2.2.1
theorem KO.truth {K : Ka} (h : KO K) : 1 ≤ K.truth ∧ K.truth ≤ 9 := h.2.2.2.2.2.2.2.2.2.2.2.2.2.2.2.2.2.2.2.2.2.1
theorem KO.isThere {K : Ka} (h : KO K) : 1 ≤ K.isThere ∧ K.isThere ≤ 99 := h.2.2.2.2.2.2.2.2.2.2.2.2.2.2.2.2.2.2.2.2.2.2.1
theorem KO.isNot {K : Ka} (h : KO K) : 1 ≤ K.isNot ∧ K.isNot ≤ 99 := h.2.2.2.2.2.2.2.2.2.2.2.2.2.2.2.2.2.2.2.2.2.2.2.1
theorem KO.last {K : Ka} (h : KO K) : ∀ e, e < 3 → K.first e ≤ K.last e ∧ K.last e ≤ K.knots := h.2.2.2.2.2.2.2.2.2.2.2.2.2.2.2.2.2.2.2.2.2.2.2.2.1
theorem KO.knot {K : Ka} (h : KO K) : ∀ e k, e < 3 → K.first e ≤ k → k < K.last e → K.knot k ≤ 14 ∧ (K.knot k = 1 → K.kP k = nI (K.kA k) ∧ K.kA k < 10) ∧ (2 ≤ K.knot k → K.kP k = nI (K.kA k) ∧ K.first e ≤ K.kA k ∧ K.kA k < k) ∧ (3 ≤ K.knot k → K.kO k = nI (K.kB k) ∧ K.first e ≤ K.kB k ∧ K.kB k < k) := h.2.2.2.2.2.2.2.2.2.2.2.2.2.2.2.2.2.2.2.2.2.2.2.2.2.1
theorem KO.up {K : Ka} (h : KO K) : ∀ e k, e < 3 → K.first e ≤ k → k + 1 < K.last e → ∃ j, k < j ∧ j < K.last e ∧ (2 ≤ K.knot j ∧ K.kA j = k ∨ 3 ≤ K.knot j ∧ K.kB j = k) := h.2.2.2.2.2.2.2.2.2.2.2.2.2.2.2.2.2.2.2.2.2.2.2.2.2.2
/-- the words that the record knows, each with a blank behind it -/
def wdL : List Int32 := [116, 104, 105, 110, 103, 32, 116, 101, 108, 108, 101, 114, 32, 97, 115, 107, 32, 115, 97, 121, 32, 112, 97, 103, 101, 32, 108, 97, 119, 32, 98, 97, 114, 32, 106, 117, 114, 121, 32, 105, 115, 32, 112, 97, 112, 101, 114, 32, 112, 111, 108, 105, 99, 101, 32, 98, 101, 103, 105, 110, 115, 32, 101, 110, 100, 115, 32, 116, 97, 112, 101, 32, 97, 110, 100, 32, 111, 114, 32, 110, 111, 116, 32, 97, 103, 101, 32, 104, 111, 117, 114, 115, 32, 111, 102, 102, 32, 97, 115, 107, 115, 32, 108, 101, 100, 32, 114, 105, 103, 104, 116, 32, 119, 114, 111, 110, 103, 32, 110, 101, 119, 32, 112, 117, 116, 32, 108, 105, 110, 101, 115, 32]
def wdC (j : Nat) : Int32 := wdL.getD j 0
/-- what is kept of the record is the case -/
def MK (M : MS) (K : Ka) : Prop := (mi M 11 = nI K.nT) ∧ (mi M 12 = nI K.nL) ∧ (mi M 13 = nI K.nK) ∧ (mi M 14 = nI K.nP) ∧ (mi M 15 = nI K.knots) ∧ (mi M 44 = nI K.told) ∧ (mi M 45 = K.heard) ∧ (mi M 46 = K.were) ∧ (mi M 47 = K.truth) ∧ (mi M 48 = K.isThere) ∧ (mi M 49 = K.isNot) ∧ (mi M 1 = nI K.fed) ∧ (mi M 4 = K.fKind) ∧ (mi M 5 = K.fPlace) ∧ (∀ j, j < K.nT → ma M 21 j = K.tName j) ∧ (∀ j, j < K.nT → ma M 22 j = K.ways j) ∧ (∀ j, j < K.nT → ma M 23 j = K.isSo j) ∧ (∀ j, j < K.nT → ma M 24 j = K.paper j) ∧ (∀ j, j < K.nT → ma M 25 j = K.police j) ∧ (∀ j, j < K.nL → ma M 26 j = K.lName j) ∧ (∀ j, j < K.nL → ma M 27 j = K.age j) ∧ (∀ j, j < K.nL → ma M 28 j = K.begins j) ∧ (∀ j, j < K.nL → ma M 29 j = K.ends j) ∧ (∀ j, j < K.nL → ma M 30 j = K.taped j) ∧ (∀ j, j < K.nK → ma M 31 j = bI (K.isW j)) ∧ (∀ j, j < K.nK → ma M 32 j = nI (K.who j)) ∧ (∀ j, j < K.nK → ma M 33 j = K.hour j) ∧ (∀ j, j < K.nK → ma M 34 j = nI (K.thing j)) ∧ (∀ j, j < K.nK → ma M 35 j = K.value j) ∧ (∀ j, j < K.nP → ma M 36 j = nI (K.pWho j)) ∧ (∀ j, j < K.nP → ma M 37 j = nI (K.pThing j)) ∧ (∀ j, j < K.nP → ma M 38 j = K.pValue j) ∧ (∀ e, e < 3 → ma M 39 e = nI (K.first e)) ∧ (∀ e, e < 3 → ma M 40 e = nI (K.last e)) ∧ (∀ j, j < K.knots → ma M 41 j = nI (K.knot j)) ∧ (∀ j, j < K.knots → ma M 42 j = K.kP j) ∧ (∀ j, j < K.knots → ma M 43 j = K.kO j) ∧ (∀ j, j < K.fed → ma M 0 j = K.byte j) ∧ (∀ j, j < 132 → ma M 3 j = wdC j)
theorem MK.nT {M : MS} {K : Ka} (h : MK M K) : mi M 11 = nI K.nT := h.1
theorem MK.nL {M : MS} {K : Ka} (h : MK M K) : mi M 12 = nI K.nL := h.2.1
theorem MK.nK {M : MS} {K : Ka} (h : MK M K) : mi M 13 = nI K.nK := h.2.2.1
theorem MK.nP {M : MS} {K : Ka} (h : MK M K) : mi M 14 = nI K.nP := h.2.2.2.1
theorem MK.knots {M : MS} {K : Ka} (h : MK M K) : mi M 15 = nI K.knots := h.2.2.2.2.1
theorem MK.told {M : MS} {K : Ka} (h : MK M K) : mi M 44 = nI K.told := h.2.2.2.2.2.1
theorem MK.heard {M : MS} {K : Ka} (h : MK M K) : mi M 45 = K.heard := h.2.2.2.2.2.2.1
theorem MK.were {M : MS} {K : Ka} (h : MK M K) : mi M 46 = K.were := h.2.2.2.2.2.2.2.1
theorem MK.truth {M : MS} {K : Ka} (h : MK M K) : mi M 47 = K.truth := h.2.2.2.2.2.2.2.2.1
theorem MK.isThere {M : MS} {K : Ka} (h : MK M K) : mi M 48 = K.isThere := h.2.2.2.2.2.2.2.2.2.1
theorem MK.isNot {M : MS} {K : Ka} (h : MK M K) : mi M 49 = K.isNot := h.2.2.2.2.2.2.2.2.2.2.1
theorem MK.fed {M : MS} {K : Ka} (h : MK M K) : mi M 1 = nI K.fed := h.2.2.2.2.2.2.2.2.2.2.2.1
theorem MK.fKind {M : MS} {K : Ka} (h : MK M K) : mi M 4 = K.fKind := h.2.2.2.2.2.2.2.2.2.2.2.2.1
theorem MK.fPlace {M : MS} {K : Ka} (h : MK M K) : mi M 5 = K.fPlace := h.2.2.2.2.2.2.2.2.2.2.2.2.2.1
theorem MK.tName {M : MS} {K : Ka} (h : MK M K) : ∀ j, j < K.nT → ma M 21 j = K.tName j := h.2.2.2.2.2.2.2.2.2.2.2.2.2.2.1
theorem MK.ways {M : MS} {K : Ka} (h : MK M K) : ∀ j, j < K.nT → ma M 22 j = K.ways j := h.2.2.2.2.2.2.2.2.2.2.2.2.2.2.2.1
theorem MK.isSo {M : MS} {K : Ka} (h : MK M K) : ∀ j, j < K.nT → ma M 23 j = K.isSo j := h.2.2.2.2.2.2.2.2.2.2.2.2.2.2.2.2.1
theorem MK.paper {M : MS} {K : Ka} (h : MK M K) : ∀ j, j < K.nT → ma M 24 j = K.paper j := h.2.2.2.2.2.2.2.2.2.2.2.2.2.2.2.2.2.1
theorem MK.police {M : MS} {K : Ka} (h : MK M K) : ∀ j, j < K.nT → ma M 25 j = K.police j := h.2.2.2.2.2.2.2.2.2.2.2.2.2.2.2.2.2.2.1
theorem MK.lName {M : MS} {K : Ka} (h : MK M K) : ∀ j, j < K.nL → ma M 26 j = K.lName j := h.2.2.2.2.2.2.2.2.2.2.2.2.2.2.2.2.2.2.2.1
theorem MK.age {M : MS} {K : Ka} (h : MK M K) : ∀ j, j < K.nL → ma M 27 j = K.age j := h.2.2.2.2.2.2.2.2.2.2.2.2.2.2.2.2.2.2.2.2.1
theorem MK.begins {M : MS} {K : Ka} (h : MK M K) : ∀ j, j < K.nL → ma M 28 j = K.begins j := h.2.2.2.2.2.2.2.2.2.2.2.2.2.2.2.2.2.2.2.2.2.1
theorem MK.ends {M : MS} {K : Ka} (h : MK M K) : ∀ j, j < K.nL → ma M 29 j = K.ends j := h.2.2.2.2.2.2.2.2.2.2.2.2.2.2.2.2.2.2.2.2.2.2.1
theorem MK.taped {M : MS} {K : Ka} (h : MK M K) : ∀ j, j < K.nL → ma M 30 j = K.taped j := h.2.2.2.2.2.2.2.2.2.2.2.2.2.2.2.2.2.2.2.2.2.2.2.1
theorem MK.isW {M : MS} {K : Ka} (h : MK M K) : ∀ j, j < K.nK → ma M 31 j = bI (K.isW j) := h.2.2.2.2.2.2.2.2.2.2.2.2.2.2.2.2.2.2.2.2.2.2.2.2.1
theorem MK.who {M : MS} {K : Ka} (h : MK M K) : ∀ j, j < K.nK → ma M 32 j = nI (K.who j) := h.2.2.2.2.2.2.2.2.2.2.2.2.2.2.2.2.2.2.2.2.2.2.2.2.2.1
theorem MK.hour {M : MS} {K : Ka} (h : MK M K) : ∀ j, j < K.nK → ma M 33 j = K.hour j := h.2.2.2.2.2.2.2.2.2.2.2.2.2.2.2.2.2.2.2.2.2.2.2.2.2.2.1
theorem MK.thing {M : MS} {K : Ka} (h : MK M K) : ∀ j, j < K.nK → ma M 34 j = nI (K.thing j) := h.2.2.2.2.2.2.2.2.2.2.2.2.2.2.2.2.2.2.2.2.2.2.2.2.2.2.2.1
theorem MK.value {M : MS} {K : Ka} (h : MK M K) : ∀ j, j < K.nK → ma M 35 j = K.value j := h.2.2.2.2.2.2.2.2.2.2.2.2.2.2.2.2.2.2.2.2.2.2.2.2.2.2.2.2.1
theorem MK.pWho {M : MS} {K : Ka} (h : MK M K) : ∀ j, j < K.nP → ma M 36 j = nI (K.pWho j) := h.2.2.2.2.2.2.2.2.2.2.2.2.2.2.2.2.2.2.2.2.2.2.2.2.2.2.2.2.2.1
theorem MK.pThing {M : MS} {K : Ka} (h : MK M K) : ∀ j, j < K.nP → ma M 37 j = nI (K.pThing j) := h.2.2.2.2.2.2.2.2.2.2.2.2.2.2.2.2.2.2.2.2.2.2.2.2.2.2.2.2.2.2.1
theorem MK.pValue {M : MS} {K : Ka} (h : MK M K) : ∀ j, j < K.nP → ma M 38 j = K.pValue j := h.2.2.2.2.2.2.2.2.2.2.2.2.2.2.2.2.2.2.2.2.2.2.2.2.2.2.2.2.2.2.2.1
theorem MK.first {M : MS} {K : Ka} (h : MK M K) : ∀ e, e < 3 → ma M 39 e = nI (K.first e) := h.2.2.2.2.2.2.2.2.2.2.2.2.2.2.2.2.2.2.2.2.2.2.2.2.2.2.2.2.2.2.2.2.1
theorem MK.last {M : MS} {K : Ka} (h : MK M K) : ∀ e, e < 3 → ma M 40 e = nI (K.last e) := h.2.2.2.2.2.2.2.2.2.2.2.2.2.2.2.2.2.2.2.2.2.2.2.2.2.2.2.2.2.2.2.2.2.1
theorem MK.knot {M : MS} {K : Ka} (h : MK M K) : ∀ j, j < K.knots → ma M 41 j = nI (K.knot j) := h.2.2.2.2.2.2.2.2.2.2.2.2.2.2.2.2.2.2.2.2.2.2.2.2.2.2.2.2.2.2.2.2.2.2.1
theorem MK.kP {M : MS} {K : Ka} (h : MK M K) : ∀ j, j < K.knots → ma M 42 j = K.kP j := h.2.2.2.2.2.2.2.2.2.2.2.2.2.2.2.2.2.2.2.2.2.2.2.2.2.2.2.2.2.2.2.2.2.2.2.1
theorem MK.kO {M : MS} {K : Ka} (h : MK M K) : ∀ j, j < K.knots → ma M 43 j = K.kO j := h.2.2.2.2.2.2.2.2.2.2.2.2.2.2.2.2.2.2.2.2.2.2.2.2.2.2.2.2.2.2.2.2.2.2.2.2.1
theorem MK.byte {M : MS} {K : Ka} (h : MK M K) : ∀ j, j < K.fed → ma M 0 j = K.byte j := h.2.2.2.2.2.2.2.2.2.2.2.2.2.2.2.2.2.2.2.2.2.2.2.2.2.2.2.2.2.2.2.2.2.2.2.2.2.1
theorem MK.words {M : MS} {K : Ka} (h : MK M K) : ∀ j, j < 132 → ma M 3 j = wdC j := h.2.2.2.2.2.2.2.2.2.2.2.2.2.2.2.2.2.2.2.2.2.2.2.2.2.2.2.2.2.2.2.2.2.2.2.2.2.2
theorem nI_z {n : Nat} (h : n < 2 ^ 31) : nI n = 0 ↔ n = 0 := by rw [← nI_0]; exact nI_eq h (by decide)
theorem nI_lt0 {n : Nat} (h : n < 2 ^ 31) : (nI n < 0) = False := by simp [nI_pos h]
theorem vp_inT {n N : Nat} (h : n < N) (hN : N < 2 ^ 31) : vp_in (nI n) N = True := eq_true (vp_in_nI h hN)
theorem br_T {c A B : Prop} (h : c = True) : ((c → A) ∧ (¬ c → B)) = A := by subst h; simp
theorem br_F {c A B : Prop} (h : c = False) : ((c → A) ∧ (¬ c → B)) = B := by subst h; simp
theorem imp_FT {A B : Prop} : ((False → A) ∧ (¬ False → B)) = B := by simp
theorem imp_TF {A B : Prop} : ((True → A) ∧ (¬ True → B)) = A := by simp
theorem br_b {α : Type} {c : Prop} [Decidable c] {P : α → Prop} {a b : α} (h : P (if c then a else b)) : (c → P a) ∧ (¬ c → P b) := by
  refine ⟨fun hc => ?_, fun hc => ?_⟩
  · rw [if_pos hc] at h; exact h
  · rw [if_neg hc] at h; exact h
/-- a yes or no that was asked -/
theorem bz {b : Bool} {A B : Prop} (hf : b = false → A) (ht : b = true → B) : (bI b = 0 → A) ∧ (¬ bI b = 0 → B) := by
  cases b
  · exact ⟨fun _ => hf rfl, fun h => absurd rfl h⟩
  · exact ⟨fun h => absurd h (by decide), fun _ => ht rfl⟩
theorem by1 {b : Bool} {A B : Prop} (ht : b = true → A) (hf : b = false → B) : (bI b = 1 → A) ∧ (¬ bI b = 1 → B) := by
  cases b
  · exact ⟨fun h => absurd h (by decide), fun _ => hf rfl⟩
  · exact ⟨fun _ => ht rfl, fun h => absurd rfl h⟩
theorem bzi {P : Int32 → Prop} {b : Bool} {u v : Int32} (h : P (if b then v else u)) : (bI b = 0 → P u) ∧ (¬ bI b = 0 → P v) := by
  cases b
  · exact ⟨fun _ => h, fun h => absurd rfl h⟩
  · exact ⟨fun h => absurd h (by decide), fun _ => h⟩
/-- combinators -/
def lastI (p : Nat → Bool) : Nat → Int32
  | 0 => -1
  | n + 1 => if p n then nI n else lastI p n
def anyB (p : Nat → Bool) : Nat → Bool
  | 0 => false
  | n + 1 => anyB p n || p n
def firstI (p : Nat → Bool) : Nat → Int32
  | 0 => -1
  | n + 1 => if anyB p n then firstI p n else if p n then nI n else -1
def cnt (p : Nat → Bool) : Nat → Nat
  | 0 => 0
  | n + 1 => cnt p n + (if p n then 1 else 0)
theorem cnt_le (p : Nat → Bool) : ∀ n, cnt p n ≤ n
  | 0 => Nat.le_refl _
  | n + 1 => by
    have := cnt_le p n
    unfold cnt
    split <;> omega
theorem anyB_f {p : Nat → Bool} : ∀ {n : Nat}, anyB p n = false → ∀ i, i < n → p i = false
  | 0, _, i, h => by omega
  | n + 1, h, i, hi => by
    unfold anyB at h
    rw [Bool.or_eq_false_iff] at h
    by_cases e : i = n
    · rw [e]; exact h.2
    · exact anyB_f h.1 i (by omega)
theorem anyB_of {p : Nat → Bool} : ∀ {n : Nat}, (∀ i, i < n → p i = false) → anyB p n = false
  | 0, _ => rfl
  | n + 1, h => by
    unfold anyB
    rw [anyB_of (fun i hi => h i (by omega)), h n (by omega)]
    rfl
theorem anyB_t {p : Nat → Bool} : ∀ {n : Nat} (i : Nat), i < n → p i = true → anyB p n = true
  | 0, i, h, _ => by omega
  | n + 1, i, hi, hp => by
    unfold anyB
    by_cases e : i = n
    · rw [← e, hp, Bool.or_true]
    · rw [anyB_t i (by omega) hp, Bool.true_or]
theorem anyB_ex {p : Nat → Bool} : ∀ {n : Nat}, anyB p n = true → ∃ i, i < n ∧ p i = true
  | 0, h => by simp [anyB] at h
  | n + 1, h => by
    unfold anyB at h
    rw [Bool.or_eq_true] at h
    rcases h with h | h
    · obtain ⟨i, hi, hp⟩ := anyB_ex h
      exact ⟨i, by omega, hp⟩
    · exact ⟨n, by omega, h⟩
theorem firstI_at {p : Nat → Bool} {k : Nat} : ∀ {n : Nat}, k < n → p k = true → anyB p k = false → firstI p n = nI k
  | 0, h, _, _ => by omega
  | n + 1, h, hp, ha => by
    unfold firstI
    by_cases e : k = n
    · rw [← e, ha, if_neg (by simp), hp, if_pos rfl]
    · rw [anyB_t k (by omega) hp, if_pos rfl]
      exact firstI_at (by omega) hp ha
theorem firstI_no {p : Nat → Bool} : ∀ {n : Nat}, anyB p n = false → firstI p n = -1
  | 0, _ => rfl
  | n + 1, h => by
    have h' := anyB_f h
    unfold firstI
    rw [anyB_of (fun i hi => h' i (by omega)), h' n (by omega)]
    rfl
theorem lastI_lt {p : Nat → Bool} : ∀ {n : Nat}, anyB p n = true → ∃ k, k < n ∧ lastI p n = nI k ∧ p k = true
  | 0, h => by simp [anyB] at h
  | n + 1, h => by
    by_cases e : p n = true
    · exact ⟨n, by omega, by unfold lastI; rw [if_pos e], e⟩
    · unfold anyB at h
      rw [Bool.or_eq_true] at h
      obtain ⟨k, h1, h2, h3⟩ := lastI_lt (h.resolve_right e)
      exact ⟨k, by omega, by unfold lastI; rw [if_neg e]; exact h2, h3⟩
theorem lastI_no {p : Nat → Bool} : ∀ {n : Nat}, anyB p n = false → lastI p n = -1
  | 0, _ => rfl
  | n + 1, h => by
    have h' := anyB_f h
    unfold lastI
    rw [h' n (by omega), if_neg (by simp)]
    exact lastI_no (anyB_of (fun i hi => h' i (by omega)))
/-- what a case answers -/
def hh (K : Ka) (k : Nat) : Bool := decide (K.hour k ≤ K.heard)
def hw (K : Ka) (k : Nat) : Bool := hh K k && K.isW k
def sy (K : Ka) (t x k : Nat) : Bool := hw K k && (K.who k == t && K.thing k == x)
def ak (K : Ka) (t k : Nat) : Bool := hh K k && (!K.isW k && K.who k == t)
def rt (K : Ka) (k : Nat) : Bool := decide (K.value k = K.isSo (K.thing k))
def loff (K : Ka) (t : Nat) (h : Int32) : Int32 := if 0 ≤ K.taped t ∧ K.taped t - 1 < h then K.taped t - 1 else h
def fs (K : Ka) (k : Nat) : Bool := !anyB (sy K (K.who k) (K.thing k)) k
def lb (K : Ka) (k : Nat) : Int32 := lastI (fun i => ak K (K.who k) i && (K.thing i == K.thing k && decide (K.value i = K.value k))) k
theorem mN_0 : mN 0 = 800 := rfl
theorem mN_3 : mN 3 = 132 := rfl
theorem mN_21 : mN 21 = 16 := rfl
theorem mN_22 : mN 22 = 16 := rfl
theorem mN_23 : mN 23 = 16 := rfl
theorem mN_24 : mN 24 = 16 := rfl
theorem mN_25 : mN 25 = 16 := rfl
theorem mN_26 : mN 26 = 10 := rfl
theorem mN_27 : mN 27 = 10 := rfl
theorem mN_28 : mN 28 = 10 := rfl
theorem mN_29 : mN 29 = 10 := rfl
theorem mN_30 : mN 30 = 10 := rfl
theorem mN_31 : mN 31 = 120 := rfl
theorem mN_32 : mN 32 = 120 := rfl
theorem mN_33 : mN 33 = 120 := rfl
theorem mN_34 : mN 34 = 120 := rfl
theorem mN_35 : mN 35 = 120 := rfl
theorem mN_36 : mN 36 = 40 := rfl
theorem mN_37 : mN 37 = 40 := rfl
theorem mN_38 : mN 38 = 40 := rfl
theorem mN_39 : mN 39 = 6 := rfl
theorem mN_40 : mN 40 = 6 := rfl
theorem mN_41 : mN 41 = 128 := rfl
theorem mN_42 : mN 42 = 128 := rfl
theorem mN_43 : mN 43 = 128 := rfl
theorem mN_50 : mN 50 = 96 := rfl
theorem mN_51 : mN 51 = 96 := rfl
theorem mN_60 : mN 60 = 20 := rfl
theorem mN_61 : mN 61 = 20 := rfl
theorem mN_62 : mN 62 = 10 := rfl
theorem mN_63 : mN 63 = 64 := rfl
/-- loops that go up: from k to k + 1, out at e -/
theorem upL {W : Nat → Nat → Prop} {e : Nat} (hx : ∀ n, W (n + 1) e) (hs : ∀ n k, k < e → W n (k + 1) → W (n + 1) k) : ∃ f, W f 0 := by
  have key : ∀ d k, k + d = e → W (d + 1) k := by
    intro d
    induction d with
    | zero => intro k hk; have : k = e := by omega
              subst this; exact hx 0
    | succ d ih => intro k hk; exact hs _ k (by omega) (ih (k + 1) (by omega))
  exact ⟨e + 1, key e 0 (by omega)⟩
def hd (s u : Int32) : Bool := decide (0 ≤ s) && decide (s ≤ u)
def ofs (K : Ka) (k : Nat) : Bool := decide (K.begins (K.who k) ≤ loff K (K.who k) (K.hour k)) && hd (K.police (K.thing k)) (loff K (K.who k) (K.hour k))
/-- what a word is: right 1, first 2, led 4, public 8, off 16, new 32, clean 64 -/
def wo (r f d p o n : Bool) : Int32 := (if r then 1 else 0) ||| (if f then 2 else 0) ||| (if d then 4 else 0) ||| (if p then 8 else 0) ||| (if o then 16 else 0) ||| (if n then 32 else 0) ||| (if f && (!d && (!p && !o)) then 64 else 0)
def isPub (K : Ka) (k : Nat) : Bool := rt K k && hd (K.paper (K.thing k)) (K.hour k)
def isOf (K : Ka) (k : Nat) : Bool := rt K k && ofs K k
def isNw (K : Ka) (k : Nat) : Bool := rt K k && (!hd (K.paper (K.thing k)) (K.hour k) && !hd (K.police (K.thing k)) (K.hour k))
def wb (K : Ka) (k : Nat) : Int32 := wo (rt K k) (fs K k) (decide (0 ≤ lb K k)) (isPub K k) (isOf K k) (isNw K k)
def lastV (p : Nat → Bool) (f : Nat → Int32) : Nat → Int32
  | 0 => -1
  | n + 1 => if p n then f n else lastV p f n
theorem lastI_V {p : Nat → Bool} (f : Nat → Int32) : ∀ {n : Nat}, anyB p n = true → ∃ k, k < n ∧ lastI p n = nI k ∧ p k = true ∧ lastV p f n = f k
  | 0, h => by simp [anyB] at h
  | n + 1, h => by
    by_cases e : p n = true
    · exact ⟨n, by omega, by unfold lastI; rw [if_pos e], e, by unfold lastV; rw [if_pos e]⟩
    · unfold anyB at h
      rw [Bool.or_eq_true] at h
      obtain ⟨k, h1, h2, h3, h4⟩ := lastI_V f (h.resolve_right e)
      exact ⟨k, by omega, by unfold lastI; rw [if_neg e]; exact h2, h3, by unfold lastV; rw [if_neg e]; exact h4⟩
theorem lastV_no {p : Nat → Bool} {f : Nat → Int32} : ∀ {n : Nat}, anyB p n = false → lastV p f n = -1
  | 0, _ => rfl
  | n + 1, h => by
    have h' := anyB_f h
    unfold lastV
    rw [h' n (by omega), if_neg (by simp)]
    exact lastV_no (anyB_of (fun i hi => h' i (by omega)))
/-- an index that was given -/
def ix (a : Int32) (n : Nat) : Option Nat := if 0 ≤ a ∧ a < nI n then some a.toNatClampNeg else none
theorem ix_nI {t n : Nat} (h : t < n) (hn : n < 2 ^ 31) : ix (nI t) n = some t := by
  unfold ix
  rw [if_pos ⟨nI_pos' (by omega), nI_lt h hn⟩, nI_clamp (by omega)]
theorem ix_lt {a : Int32} {t n : Nat} (hn : n < 2 ^ 31) (h : ix a n = some t) : t < n ∧ a = nI t := by
  unfold ix at h
  split at h
  · rename_i hc
    obtain ⟨j, hj, rfl⟩ := nI_of (Int32.not_lt.mpr hc.1)
    rw [nI_clamp hj] at h
    cases h
    exact ⟨(nI_ltI hj hn).mp hc.2, rfl⟩
  · cases h
theorem ix_none {a : Int32} {n : Nat} (h : ix a n = none) : a < 0 ∨ nI n ≤ a := by
  unfold ix at h
  split at h
  · cases h
  · rename_i hc
    by_cases h0 : a < 0
    · exact Or.inl h0
    · exact Or.inr (Int32.not_lt.mp (fun h1 => hc ⟨Int32.not_lt.mp h0, h1⟩))
theorem ix_ge {a : Int32} {n : Nat} (h : a < 0 ∨ nI n ≤ a) : ix a n = none := by
  unfold ix
  rw [if_neg]
  rintro ⟨h1, h2⟩
  rcases h with h | h
  · exact Int32.not_lt.mpr h1 h
  · exact Int32.not_lt.mpr h h2
def sto (K : Ka) (t x : Nat) : Int32 := lastV (sy K t x) K.value K.nK
def svB (K : Ka) (t x : Nat) (v : Int32) (k : Nat) : Bool := sy K t x k && decide (K.value k = v)
def pgk (K : Ka) (k : Nat) : Int32 := if anyB (sy K (K.pWho k) (K.pThing k)) K.nK then (if sto K (K.pWho k) (K.pThing k) = K.pValue k then 0 else if anyB (svB K (K.pWho k) (K.pThing k) (K.pValue k)) K.nK then 1 else 2) else 3
def onP (K : Ka) (t x : Nat) (v : Int32) : Bool := anyB (fun k => K.pWho k == t && (K.pThing k == x && decide (K.pValue k = v))) K.nP
def clB (K : Ka) (a b x : Nat) : Bool := decide (0 ≤ sto K a x) && (decide (0 ≤ sto K b x) && !decide (sto K a x = sto K b x))
/-- the answers -/
def aWord (K : Ka) (a : Int32) : Int32 := match ix a K.nK with | none => -1 | some k => if hw K k then wb K k else -1
def aLed (K : Ka) (a : Int32) : Int32 := match ix a K.nK with | none => -1 | some k => if hw K k then lb K k else -1
def aWords (K : Ka) (a b : Int32) : Int32 := match ix a K.nL with | none => -1 | some t => if 1 ≤ b ∧ b ≤ 127 then nI (cnt (fun k => hw K k && (K.who k == t && decide (wb K k &&& b = b))) K.nK) else -1
def aPage (K : Ka) (a : Int32) : Int32 := match ix a K.nP with | none => -1 | some k => pgk K k
def aLeft (K : Ka) (a : Int32) : Int32 := match ix a K.nL with | none => -1 | some t => nI (cnt (fun k => hw K k && (K.who k == t && (!rt K k && !onP K t (K.thing k) (K.value k)))) K.nK)
def aStory (K : Ka) (a b : Int32) : Int32 := match ix a K.nL, ix b K.nT with | some t, some x => sto K t x | _, _ => -2
def aClash (K : Ka) (a b : Int32) : Int32 := match ix a K.nL, ix b K.nL with | some t, some u => if t = u then -1 else nI (cnt (clB K t u) K.nT) | _, _ => -1
theorem MK.si2 {M : MS} {K : Ka} {v : Int32} (h : MK M K) : MK (si M 2 v) K := h
def Ka.setHeard (K : Ka) (v : Int32) : Ka := (K.1, va_up K.2.1 0 v, K.2.2)
theorem KO.setHeard {K : Ka} {v : Int32} (h : KO K) (h1 : 0 ≤ v) (h2 : v ≤ 199) : KO (K.setHeard v) := by
  obtain ⟨a1, a2, a3, a4, a5, a6, a7, a8, a9, a10, a11, a12, a13, a14, a15, a16, a17, a18, a19, a20, a21, a22, a23, a24⟩ := h
  exact ⟨a1, a2, a3, a4, a5, a6, a7, a8, a9, a10, a11, a12, a13, a14, a15, a16, a17, a18, a19, a20, ⟨h1, h2⟩, a22, a23, a24⟩
theorem MK.setHeard {M : MS} {K : Ka} {v : Int32} (h : MK M K) : MK (si M 45 v) (K.setHeard v) := by
  obtain ⟨a1, a2, a3, a4, a5, a6, a7, a8⟩ := h
  exact ⟨a1, a2, a3, a4, a5, a6, rfl, a8⟩
def aHear (K : Ka) (a : Int32) : Int32 × Ka := if 0 ≤ a ∧ a ≤ 199 then (nI (cnt (hh (K.setHeard a)) K.nK), K.setHeard a) else (-1, K)
theorem firstI_ex {p : Nat → Bool} : ∀ {n : Nat}, anyB p n = true → ∃ k, k < n ∧ firstI p n = nI k
  | 0, h => by simp [anyB] at h
  | n + 1, h => by
    by_cases e : anyB p n = true
    · obtain ⟨k, h1, h2⟩ := firstI_ex e
      exact ⟨k, by omega, by unfold firstI; rw [if_pos e]; exact h2⟩
    · have e' : anyB p n = false := by cases g : anyB p n <;> simp_all
      unfold anyB at h
      rw [e', Bool.false_or] at h
      exact ⟨n, by omega, by unfold firstI; rw [if_neg e, if_pos h]⟩
theorem upF {W : Nat → Nat → Prop} {e s : Nat} (hse : s ≤ e) (hx : ∀ n, W (n + 1) e) (hs : ∀ n k, s ≤ k → k < e → W n (k + 1) → W (n + 1) k) : ∃ f, W f s := by
  have key : ∀ d k, k + d = e → s ≤ k → W (d + 1) k := by
    intro d
    induction d with
    | zero => intro k hk _; have : k = e := by omega
              subst this; exact hx 0
    | succ d ih => intro k hk hk2; exact hs _ k hk2 (by omega) (ih (k + 1) (by omega) (by omega))
  exact ⟨e - s + 1, key (e - s) s (by omega) (Nat.le_refl _)⟩
def bt (s : Int32) (k : Nat) : Bool := decide ((s >>> (nI k &&& 31)) &&& 1 = 1)
def mn (s : Int32) : Nat → Int32
  | 0 => 0
  | n + 1 => mn s n + ((s >>> (nI n &&& 31)) &&& 1)
def tp (K : Ka) (k : Nat) : Bool := decide (0 ≤ K.taped (K.who k)) && decide (K.taped (K.who k) ≤ K.hour k)
def wa (K : Ka) (k : Nat) : Bool := anyB (fun i => ak K (K.who k) i && (K.thing i == K.thing k && tp K i)) k
def suB (K : Ka) (t k : Nat) : Bool := hw K k && (K.who k == t && (tp K k && (rt K k && (hd (K.police (K.thing k)) (K.taped t) && !wa K k))))
def sup (K : Ka) (t : Nat) : Nat → Int32
  | 0 => 0
  | n + 1 => if suB K t n then sup K t n ||| ((1 : Int32) <<< (nI (K.thing n) &&& 31)) else sup K t n
def aSup (K : Ka) (a : Int32) : Int32 := match ix a K.nL with | none => -1 | some t => if K.begins t < K.taped t then sup K t K.nK else 0
def clN (K : Ka) (a b : Nat) : Nat := cnt (clB K a b) K.nT
def okB (K : Ka) (s : Int32) (a b : Nat) : Bool := bt s a && (bt s b && !decide (clN K a b = 0))
def okA (K : Ka) (s : Int32) (a : Nat) : Bool := anyB (okB K s a) a
def tog (K : Ka) : Nat → Int32
  | 0 => 0
  | n + 1 => if !anyB (okA K (nI n)) K.nL && decide (mn (tog K n) 16 < mn (nI n) 16) then nI n else tog K n
def aTog (K : Ka) : Int32 := tog K (2 ^ K.nL)
def wN (K : Ka) (x : Nat) : Nat := (K.ways x).toNatClampNeg
theorem KO.wN {K : Ka} (h : KO K) {x : Nat} (hx : x < K.nT) : ∃ j : Nat, wN K x = j ∧ K.ways x = nI j ∧ 2 ≤ j ∧ j ≤ 9 := by
  obtain ⟨h1, h2⟩ := h.ways x hx
  have e0 : (0 : Int32).toInt = 0 := by decide
  have e2 : (2 : Int32).toInt = 2 := by decide
  have e9 : (9 : Int32).toInt = 9 := by decide
  have a2 := Int32.le_iff_toInt_le.mp h1
  have a3 := Int32.le_iff_toInt_le.mp h2
  have h0 : ¬ K.ways x < 0 := fun q => by
    have a1 := Int32.lt_iff_toInt_lt.mp q
    omega
  obtain ⟨j, hj, e⟩ := nI_of h0
  rw [e, nI_toInt hj] at a2 a3
  refine ⟨j, ?_, e, by omega, by omega⟩
  show (K.ways x).toNatClampNeg = j
  rw [e, nI_clamp hj]
def sm (K : Ka) (s : Int32) (x : Nat) (v : Nat) : Nat := cnt (fun t => bt s t && decide (sto K t x = nI v)) K.nL
def al (K : Ka) (s : Int32) (x : Nat) : Nat → Nat
  | 0 => 0
  | n + 1 => al K s x n + sm K s x n
def mx (K : Ka) (s : Int32) (x : Nat) : Nat → Nat
  | 0 => 0
  | n + 1 => if mx K s x n < sm K s x n then sm K s x n else mx K s x n
def lsI (K : Ka) (s : Int32) : Nat → Int32
  | 0 => 0
  | n + 1 => lsI K s n + (nI (al K s n (wN K n)) - nI (mx K s n (wN K n)))
def aLies (K : Ka) (s : Int32) : Int32 := match ix s (2 ^ K.nL) with | none => -1 | some _ => lsI K s K.nT
theorem shl_n {n : Nat} (h : n ≤ 5) : (1 : Int32) <<< (nI n &&& 31) = nI (2 ^ n) := by
  have : n = 0 ∨ n = 1 ∨ n = 2 ∨ n = 3 ∨ n = 4 ∨ n = 5 := by omega
  rcases this with rfl | rfl | rfl | rfl | rfl | rfl <;> decide
theorem two_n {n : Nat} (h : n ≤ 5) : 1 ≤ 2 ^ n ∧ 2 ^ n ≤ 32 := by
  have : n = 0 ∨ n = 1 ∨ n = 2 ∨ n = 3 ∨ n = 4 ∨ n = 5 := by omega
  rcases this with rfl | rfl | rfl | rfl | rfl | rfl <;> decide
theorem anyB_congr {p q : Nat → Bool} : ∀ {n : Nat}, (∀ i, i < n → p i = q i) → anyB p n = anyB q n
  | 0, _ => rfl
  | n + 1, h => by
    unfold anyB
    rw [anyB_congr (fun i hi => h i (by omega)), h n (by omega)]
theorem firstI_congr {p q : Nat → Bool} : ∀ {n : Nat}, (∀ i, i < n → p i = q i) → firstI p n = firstI q n
  | 0, _ => rfl
  | n + 1, h => by
    unfold firstI
    rw [anyB_congr (fun i hi => h i (by omega)), firstI_congr (fun i hi => h i (by omega)), h n (by omega)]
theorem lastV_congr {p q : Nat → Bool} {f g : Nat → Int32} : ∀ {n : Nat}, (∀ i, i < n → p i = q i) → (∀ i, i < n → f i = g i) → lastV p f n = lastV q g n
  | 0, _, _ => rfl
  | n + 1, h, h2 => by
    unfold lastV
    rw [lastV_congr (fun i hi => h i (by omega)) (fun i hi => h2 i (by omega)), h n (by omega), h2 n (by omega)]
def fName (f : Nat → Int32) (n : Nat) (v : Int32) : Int32 := firstI (fun k => decide (f k = v)) n
def aNamed (K : Ka) (a b : Int32) : Int32 := if a = 0 then fName K.tName K.nT b else if a = 1 then fName K.lName K.nL b else -1
def aFault (K : Ka) (a : Int32) : Int32 := if a = 0 then K.fKind else if a = 1 then K.fPlace else -1
def aTeller (K : Ka) (a b : Int32) : Int32 := match ix a K.nL with | none => -1 | some t => if b = 0 then K.age t else if b = 1 then K.begins t else if b = 2 then K.ends t else if b = 3 then K.taped t else -1
def aLine (K : Ka) (a b : Int32) : Int32 := match ix a K.nK with | none => -2 | some k => if hh K k then (if b = 0 then bI (K.isW k) else if b = 1 then nI (K.who k) else if b = 2 then K.hour k else if b = 3 then nI (K.thing k) else if b = 4 then K.value k else -2) else -2
/-- what is thrown, what is answered -/
def aLook (K : Ka) (a b : Int32) : Int32 × Int32 := match ix a K.nT with | none => (1, 0) | some x => if b = 0 then (0, K.ways x) else if b = 1 then (0, K.isSo x) else if b = 2 then (0, K.paper x) else if b = 3 then (0, K.police x) else (2, 0)
def aCount (K : Ka) (a : Int32) : Int32 := if a = 0 then nI K.nT else if a = 1 then nI K.nL else if a = 2 then nI K.nK else if a = 3 then nI (cnt (hh K) K.nK) else if a = 4 then nI K.nP else if a = 5 then nI K.knots else if a = 6 then K.heard else if a = 7 then nI K.told else -1
def Ka.setTruth (K : Ka) (v : Int32) : Ka := (K.1, va_up K.2.1 2 v, K.2.2)
theorem KO.setTruth {K : Ka} {v : Int32} (h : KO K) (h1 : 1 ≤ v) (h2 : v ≤ 9) : KO (K.setTruth v) := by
  obtain ⟨a1, a2, a3, a4, a5, a6, a7, a8, a9, a10, a11, a12, a13, a14, a15, a16, a17, a18, a19, a20, a21, a22, a23, a24⟩ := h
  exact ⟨a1, a2, a3, a4, a5, a6, a7, a8, a9, a10, a11, a12, a13, a14, a15, a16, a17, a18, a19, a20, a21, ⟨h1, h2⟩, a23, a24⟩
theorem MK.setTruth {M : MS} {K : Ka} {v : Int32} (h : MK M K) : MK (si M 47 v) (K.setTruth v) := by
  obtain ⟨a1, a2, a3, a4, a5, a6, a7, a8, a9, a10⟩ := h
  exact ⟨a1, a2, a3, a4, a5, a6, a7, a8, rfl, a10⟩
def aTruth (K : Ka) (a : Int32) : Int32 × Ka := if 1 ≤ a ∧ a ≤ 9 then (1, K.setTruth a) else (0, K)
def Ka.setBegin (K : Ka) (u v : Int32) : Ka := (K.1, va_up (va_up K.2.1 3 u) 4 v, K.2.2)
theorem KO.setBegin {K : Ka} {u v : Int32} (h : KO K) (h1 : 1 ≤ u ∧ u ≤ 99) (h2 : 1 ≤ v ∧ v ≤ 99) : KO (K.setBegin u v) := by
  obtain ⟨a1, a2, a3, a4, a5, a6, a7, a8, a9, a10, a11, a12, a13, a14, a15, a16, a17, a18, a19, a20, a21, a22, a23, a24, a25⟩ := h
  exact ⟨a1, a2, a3, a4, a5, a6, a7, a8, a9, a10, a11, a12, a13, a14, a15, a16, a17, a18, a19, a20, a21, a22, h1, h2, a25⟩
theorem MK.setBegin {M : MS} {K : Ka} {u v : Int32} (h : MK M K) : MK (si (si M 48 u) 49 v) (K.setBegin u v) := by
  obtain ⟨a1, a2, a3, a4, a5, a6, a7, a8, a9, a10, a11, a12⟩ := h
  exact ⟨a1, a2, a3, a4, a5, a6, a7, a8, a9, rfl, rfl, a12⟩
def aBegin (K : Ka) (a b : Int32) : Int32 × Ka := if (1 ≤ a ∧ a ≤ 99) ∧ (1 ≤ b ∧ b ≤ 99) then (1, K.setBegin a b) else (0, K)
def f1B (K : Ka) (k i : Nat) : Bool := K.pWho i == K.pWho k && K.pThing i == K.pThing k
def fpg (K : Ka) (k : Nat) : Bool := !anyB (f1B K k) k
def Ka.undo (K : Ka) : Ka := (va_up (va_up K.1 2 (K.nK - 1)) 5 (K.told - 1), K.2)
theorem KO.undo {K : Ka} (h : KO K) (ht : 0 < K.told) : KO K.undo := by
  have h2 := h.told
  have h3 := h.nK
  obtain ⟨a1, a2, a3, a4, a5, a6, a7, a8, a9, a10, a11, a12, a13, a14, a15, a16, a17, a18, a19⟩ := h
  exact ⟨a1, a2, (show K.nK - 1 ≤ 60 by omega), a4, fun k (hk : k < K.nK - 1) => a5 k (by omega), fun k (hk : k < K.nK - 1) => a6 k (by omega), a7, a8, a9, a10, fun k (hk : k < K.nK - 1) => a11 k (by omega), a12, a13, a14, a15, fun k (hk : k < K.nK - 1) => a16 k (by omega), a17, (show K.told - 1 ≤ K.nK - 1 by omega), a19⟩
def aUndo (K : Ka) : Int32 × Ka := if K.told = 0 then (-1, K) else (nI (K.told - 1), K.undo)
def latH (K : Ka) (t : Nat) : Int32 := lastV (fun k => K.who k == t) K.hour K.nK
def Ka.add (K : Ka) (w : Bool) (t x : Nat) (u v : Int32) : Ka := (va_up (va_up K.1 2 (K.nK + 1)) 5 (K.told + 1), K.2.1, va_up (va_up (va_up K.2.2.1 0 (va_up K.who K.nK t)) 1 (va_up K.thing K.nK x)) 4 (va_up K.wd K.nK (if w then 1 else 0)), va_up (va_up K.2.2.2 10 (va_up K.hour K.nK u)) 11 (va_up K.value K.nK v))
def aSay (K : Ka) (w : Bool) (a h b v : Int32) : Int32 × Ka := if K.nK = 60 then (-1, K) else match ix a K.nL, ix b K.nT with
  | some t, some x => if (K.begins t ≤ h ∧ h ≤ K.ends t ∧ latH K t ≤ h) ∧ ((if w then 0 else -1) ≤ v ∧ v < K.ways x) then (nI K.nK, K.add w t x h v) else (-1, K)
  | _, _ => (-1, K)
theorem KO.add {K : Ka} {w : Bool} {t x : Nat} {u v : Int32} (h : KO K) (hn : K.nK < 60) (ht : t < K.nL) (hx : x < K.nT) (h1 : K.begins t ≤ u ∧ u ≤ K.ends t) (h2 : -1 ≤ v ∧ v < K.ways x) (h3 : w = true → 0 ≤ v) : KO (K.add w t x u v) := by
  have e : ∀ k, k < K.nK + 1 → k = K.nK ∨ k < K.nK := fun k hk => by omega
  have o : ∀ {α : Type} (f : Nat → α) (y : α) (k : Nat), k < K.nK → va_up f K.nK y k = f k := fun f y k hk => by
    unfold va_up; rw [if_neg (by omega)]
  have s : ∀ {α : Type} (f : Nat → α) (y : α), va_up f K.nK y K.nK = y := fun f y => by
    unfold va_up; rw [if_pos rfl]
  obtain ⟨a1, a2, a3, a4, a5, a6, a7, a8, a9, a10, a11, a12, a13, a14, a15, a16, a17, a18, a19⟩ := h
  refine ⟨a1, a2, (show K.nK + 1 ≤ 60 by omega), a4, ?_, ?_, a7, a8, a9, a10, ?_, a12, a13, a14, a15, ?_, a17, (show K.told + 1 ≤ K.nK + 1 by omega), a19⟩
  · intro k hk
    show va_up K.who K.nK t k < K.nL
    rcases e k hk with rfl | q
    · rw [s]; exact ht
    · rw [o _ _ _ q]; exact a5 k q
  · intro k hk
    show va_up K.thing K.nK x k < K.nT
    rcases e k hk with rfl | q
    · rw [s]; exact hx
    · rw [o _ _ _ q]; exact a6 k q
  · intro k hk
    show (-1 ≤ va_up K.value K.nK v k ∧ va_up K.value K.nK v k < K.ways (va_up K.thing K.nK x k)) ∧ ((va_up K.wd K.nK (if w then 1 else 0) k == 1) = true → 0 ≤ va_up K.value K.nK v k)
    rcases e k hk with rfl | q
    · rw [s, s, s]
      refine ⟨h2, fun q => h3 ?_⟩
      cases w
      · exact absurd q (by decide)
      · rfl
    · rw [o _ _ _ q, o _ _ _ q, o _ _ _ q]; exact a11 k q
  · intro k hk
    show K.begins (va_up K.who K.nK t k) ≤ va_up K.hour K.nK u k ∧ va_up K.hour K.nK u k ≤ K.ends (va_up K.who K.nK t k)
    rcases e k hk with rfl | q
    · rw [s, s]; exact h1
    · rw [o _ _ _ q, o _ _ _ q]; exact a16 k q
/-- the byte no. i of five words -/
def fbW (a b c d e : Int32) (i : Nat) : Int32 := if i < 4 then a else if i < 8 then b else if i < 12 then c else if i < 16 then d else e
def fb (a b c d e : Int32) (i : Nat) : Int32 := (fbW a b c d e i >>> (nI (24 - 8 * (i % 4)) &&& 31)) &&& 255
def Ka.feed (K : Ka) (a b c d e : Int32) : Ka := (va_up K.1 6 (K.fed + 20), K.2.1, K.2.2.1, va_up K.2.2.2 15 (fun j => if K.fed ≤ j ∧ j < K.fed + 20 then fb a b c d e (j - K.fed) else K.byte j))
def aFeed (K : Ka) (a b c d e : Int32) : Int32 × Ka := if K.fed + 20 ≤ 800 then (nI (K.fed + 20), K.feed a b c d e) else (-1, K)
theorem sh_eq {i : Nat} (h : i < 20) : (((24 : Int32) - ((8 : Int32) * (nI i - nI i / (4 : Int32) * (4 : Int32)))) &&& (31 : Int32)) = nI (24 - 8 * (i % 4)) &&& 31 := by
  have : ∀ i, i < 20 → (((24 : Int32) - ((8 : Int32) * (nI i - nI i / (4 : Int32) * (4 : Int32)))) &&& (31 : Int32)) = nI (24 - 8 * (i % 4)) &&& 31 := by decide
  exact this i h
