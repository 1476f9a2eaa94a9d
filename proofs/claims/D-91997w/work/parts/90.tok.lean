/-! TOKENS: text B of n bytes; SaidSo's codes: 0 word, 1 name, 2 number, 3 sign, 4 end, 5 none -/
def wsB (b : Int32) : Bool := decide (b = 10) || decide (b = 32)
def smB (b : Int32) : Bool := decide (97 ≤ b) && decide (b ≤ 122)
def dgB (b : Int32) : Bool := decide (48 ≤ b) && decide (b ≤ 57)
def rnE (f : Int32 → Bool) (B : Nat → Int32) (n : Nat) : Nat → Nat → Nat
  | 0, p => p
  | d + 1, p => if p < n ∧ f (B p) = true then rnE f B n d (p + 1) else p
/-- the end of a run -/
def rE (f : Int32 → Bool) (B : Nat → Int32) (n p : Nat) : Nat := rnE f B n (n - p) p
theorem rE_stop {f : Int32 → Bool} {B : Nat → Int32} {n p : Nat} (h : ¬ (p < n ∧ f (B p) = true)) : rE f B n p = p := by
  unfold rE
  cases n - p with
  | zero => rfl
  | succ d => rw [rnE, if_neg h]
theorem rE_go {f : Int32 → Bool} {B : Nat → Int32} {n p : Nat} (h : p < n) (h2 : f (B p) = true) : rE f B n p = rE f B n (p + 1) := by
  unfold rE
  rw [show n - p = (n - (p + 1)) + 1 by omega, rnE, if_pos ⟨h, h2⟩]
theorem rE_all {f : Int32 → Bool} {B : Nat → Int32} {n : Nat} : ∀ (d p : Nat), n - p = d → p ≤ rE f B n p ∧ (p ≤ n → rE f B n p ≤ n) ∧ (∀ j, p ≤ j → j < rE f B n p → f (B j) = true) ∧ ¬ (rE f B n p < n ∧ f (B (rE f B n p)) = true) := by
  intro d
  induction d with
  | zero =>
    intro p hd
    rw [rE_stop (fun q => by omega)]
    exact ⟨Nat.le_refl _, fun h => h, fun j h1 h2 => by omega, fun q => by omega⟩
  | succ d ih =>
    intro p hd
    by_cases c : f (B p) = true
    · rw [rE_go (by omega) c]
      obtain ⟨h1, h2, h3, h4⟩ := ih (p + 1) (by omega)
      refine ⟨by omega, fun h => h2 (by omega), fun j j1 j2 => ?_, h4⟩
      by_cases e : j = p
      · rw [e]; exact c
      · exact h3 j (by omega) j2
    · rw [rE_stop (fun q => c q.2)]
      exact ⟨Nat.le_refl _, fun h => h, fun j h1 h2 => by omega, fun q => c q.2⟩
theorem rE_ge (f : Int32 → Bool) (B : Nat → Int32) (n p : Nat) : p ≤ rE f B n p := (rE_all (n - p) p rfl).1
theorem rE_le {f : Int32 → Bool} {B : Nat → Int32} {n p : Nat} (h : p ≤ n) : rE f B n p ≤ n := (rE_all (n - p) p rfl).2.1 h
theorem rE_in {f : Int32 → Bool} {B : Nat → Int32} {n p j : Nat} (h1 : p ≤ j) (h2 : j < rE f B n p) : f (B j) = true := (rE_all (n - p) p rfl).2.2.1 j h1 h2
theorem rE_end (f : Int32 → Bool) (B : Nat → Int32) (n p : Nat) : ¬ (rE f B n p < n ∧ f (B (rE f B n p)) = true) := (rE_all (n - p) p rfl).2.2.2
def skp (B : Nat → Int32) (n p : Nat) : Nat := rE wsB B n p
/-- whether the text from q to e is word no. w -/
def wdB (B : Nat → Int32) (q e w : Nat) : Bool := decide (nmLen w = e - q) && !anyB (fun k => !decide (nmB w k = B (q + k))) (e - q)
def wdI (B : Nat → Int32) (q e : Nat) : Int32 := firstI (wdB B q e) 27
def pkN (B : Nat → Int32) (q e : Nat) : Nat → Int32
  | 0 => 0
  | k + 1 => (pkN B q e k <<< ((5 : Int32) &&& 31)) ||| (if q + k < e then B (q + k) - 96 else 0)
def nuV (B : Nat → Int32) (q : Nat) : Nat → Int32
  | 0 => 0
  | k + 1 => if nuV B q k ≤ 999 then 10 * nuV B q k + B (q + k) - 48 else nuV B q k
def sgQ (c : Int32) : Bool := anyB (fun k => decide (sgB k = c)) 10
def sgV (B : Nat → Int32) (n q : Nat) : Int32 := if B q = 60 ∧ q + 1 < n ∧ B (q + 1) = 61 then 256 else if B q = 60 ∧ q + 1 < n ∧ B (q + 1) = 62 then 258 else if B q = 62 ∧ q + 1 < n ∧ B (q + 1) = 61 then 257 else B q
def sgE (B : Nat → Int32) (n q : Nat) : Nat := if (B q = 60 ∧ q + 1 < n ∧ B (q + 1) = 61) ∨ (B q = 60 ∧ q + 1 < n ∧ B (q + 1) = 62) ∨ (B q = 62 ∧ q + 1 < n ∧ B (q + 1) = 61) then q + 2 else q + 1
/-- the token that starts at q: sort, value, end -/
def tkA (B : Nat → Int32) (n q : Nat) : Nat × Int32 × Nat :=
  if q < n then
    if smB (B q) then
      (if wdI B q (rE smB B n q) = -1 then (if rE smB B n q - q ≤ 6 then (1, pkN B q (rE smB B n q) 6, rE smB B n q) else (5, -1, rE smB B n q)) else (0, wdI B q (rE smB B n q), rE smB B n q))
    else if dgB (B q) then (2, nuV B q (rE dgB B n q - q), rE dgB B n q)
    else (if sgQ (B q) then 3 else 5, sgV B n q, sgE B n q)
  else (4, 0, q)
def tS (B : Nat → Int32) (n p : Nat) : Nat := (tkA B n (skp B n p)).1
def tV (B : Nat → Int32) (n p : Nat) : Int32 := (tkA B n (skp B n p)).2.1
def tE (B : Nat → Int32) (n p : Nat) : Nat := (tkA B n (skp B n p)).2.2
theorem skp_ge (B : Nat → Int32) (n p : Nat) : p ≤ skp B n p := rE_ge _ _ _ _
theorem skp_le {B : Nat → Int32} {n p : Nat} (h : p ≤ n) : skp B n p ≤ n := rE_le h
/-- a token but for the end takes a byte at least; all ends lie in the text -/
theorem tkA_E {B : Nat → Int32} {n q : Nat} (h : q ≤ n) : q ≤ (tkA B n q).2.2 ∧ (tkA B n q).2.2 ≤ n ∧ ((tkA B n q).1 ≠ 4 → q < (tkA B n q).2.2) := by
  unfold tkA
  by_cases c : q < n
  · rw [if_pos c]
    by_cases d : smB (B q) = true
    · rw [if_pos d]
      have h1 : q + 1 ≤ rE smB B n q := by rw [rE_go c d]; exact rE_ge _ _ _ _
      have h2 : rE smB B n q ≤ n := rE_le h
      repeat' split
      all_goals exact ⟨by dsimp only; omega, by dsimp only; omega, fun _ => by dsimp only; omega⟩
    · rw [if_neg d]
      by_cases e : dgB (B q) = true
      · rw [if_pos e]
        have h1 : q + 1 ≤ rE dgB B n q := by rw [rE_go c e]; exact rE_ge _ _ _ _
        have h2 : rE dgB B n q ≤ n := rE_le h
        exact ⟨by dsimp only; omega, by dsimp only; omega, fun _ => by dsimp only; omega⟩
      · rw [if_neg e]
        dsimp only
        unfold sgE
        split
        · exact ⟨by omega, by omega, fun _ => by omega⟩
        · exact ⟨by omega, by omega, fun _ => by omega⟩
  · rw [if_neg c]
    exact ⟨Nat.le_refl _, h, fun z => absurd rfl z⟩
theorem tE_ge {B : Nat → Int32} {n p : Nat} (h : p ≤ n) : p ≤ tE B n p ∧ tE B n p ≤ n ∧ (tS B n p ≠ 4 → p < tE B n p) := by
  have h1 := skp_ge B n p
  obtain ⟨a1, a2, a3⟩ := tkA_E (B := B) (skp_le (B := B) h)
  exact ⟨Nat.le_trans h1 a1, a2, fun z => Nat.lt_of_le_of_lt h1 (a3 z)⟩
theorem tS_le (B : Nat → Int32) (n p : Nat) : tS B n p ≤ 5 := by
  unfold tS tkA
  repeat' split
  all_goals first | decide | omega
theorem wdI_ge (B : Nat → Int32) (q e : Nat) : wdI B q e = -1 ∨ ∃ w, w < 27 ∧ wdI B q e = nI w := by
  unfold wdI
  cases c : anyB (wdB B q e) 27 with
  | true => exact Or.inr (firstI_ex c)
  | false => exact Or.inl (firstI_no c)
def byt (b : Int32) : Prop := ∃ j, j < 256 ∧ b = nI j
theorem bnr_255 {b : Int32} (h : byt b) : bnr b &&& 255 = b := by
  obtain ⟨j, hj, rfl⟩ := h
  have : ∀ j, j < 256 → bnr (nI j) &&& 255 = nI j := by decide +kernel
  exact this j hj
theorem bnr_low {b : Int32} (h : byt b) (h2 : b ≤ 127) : bnr b = b := by
  obtain ⟨j, hj, rfl⟩ := h
  rw [show (127 : Int32) = nI 127 from rfl, nI_leI (by omega) (by decide)] at h2
  have : ∀ j, j < 128 → bnr (nI j) = nI j := by decide +kernel
  exact this j (by omega)
theorem smB_low {b : Int32} (h : smB b = true) : b ≤ 127 := by
  unfold smB at h
  simp only [Bool.and_eq_true, decide_eq_true_iff] at h
  exact Int32.le_trans h.2 (by decide)
