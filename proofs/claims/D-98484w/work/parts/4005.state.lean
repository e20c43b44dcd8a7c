/-! P2 STATE: what both programs hold -/
/-- a land: numbers by field and place (0 how many undone, 1 scalars, 2 side, 3 weight, 4 coins, 5 hours, 6 fell, 7 seen, 8 9 10 paths, 11 12 turns, 13 14 trials), worlds held, rows of the past -/
abbrev ld_t : Type := (Nat → Nat → Nat) × (Nat → Nat → Bool) × (Nat → (Nat → Nat → Nat) × (Nat → Nat → Bool))
def lA (A : ld_t) (f i : Nat) : Nat := A.1 f i
def lH (A : ld_t) (who w : Nat) : Bool := A.2.1 who w
def lP (A : ld_t) (k : Nat) : (Nat → Nat → Nat) × (Nat → Nat → Bool) := A.2.2 k
def rnF (A : ld_t) (f : Nat) : Nat := if f = 0 then 1 else if f = 1 then 9 else if f ≤ 6 then lA A 1 2 else if f = 7 then lA A 1 3 else if f ≤ 10 then lA A 1 4 else if f ≤ 12 then lA A 1 5 else if f ≤ 14 then lA A 1 7 else 0
/-- bits of a row of ints, of longs -/
def rI_ (row : Nat → Int32) (base : Nat) (B : Nat → Bool) : Prop := ∀ w, w < 256 → bt (row (base + w / 32)) (w % 32) = B w
def rL_ (row : Nat → Int64) (base : Nat) (B : Nat → Bool) : Prop := ∀ w, w < 256 → btl (row (base + w / 64)) (w % 64) = B w
def lW (A : ld_t) : Prop :=
  (lA A 1 0 ≤ 8 ∧ lA A 1 1 < 2 ^ lA A 1 0 ∧ lA A 1 2 ≤ 6 ∧ lA A 1 3 ≤ 6 ∧ lA A 1 4 ≤ 10 ∧ lA A 1 5 ≤ 8 ∧ lA A 1 6 ≤ 20000 ∧ lA A 1 7 ≤ 10 ∧ lA A 0 0 ≤ 20) ∧
  (∀ p, p < lA A 1 2 → lA A 2 p ≤ 1 ∧ 1 ≤ lA A 3 p ∧ lA A 3 p ≤ 128 ∧ lA A 4 p ≤ 99 ∧ lA A 5 p ≤ 24 ∧ lA A 6 p ≤ 1) ∧
  (∀ k, k < lA A 1 3 → lA A 7 k < lA A 1 0) ∧ (∀ k, k < lA A 1 4 → lA A 8 k < lA A 1 3 ∧ lA A 9 k < lA A 1 3 ∧ 1 ≤ lA A 10 k ∧ lA A 10 k ≤ 9) ∧
  (∀ t, t < lA A 1 5 → lA A 11 t < lA A 1 0 ∧ lA A 12 t ≤ 99) ∧
  (∀ who w, (who < lA A 1 2 ∨ who = 6) → lH A who w = true → w < 2 ^ lA A 1 0)
/-- a row of the past -/
abbrev pa_s : Type := (Nat → Nat → Nat) × (Nat → Nat → Bool)
/-- the model's land, by what stands at a field and a place -/
def mlR (acc : Nat → Nat → Int32) (A : ld_t) : Prop :=
  (∀ f i, i < rnF A f → acc f i = nI (lA A f i)) ∧ (∀ who, who < lA A 1 2 ∨ who = 6 → rI_ (acc 15) (8 * who) (lH A who)) ∧
  ∀ k, k < lA A 0 0 → (acc 57 (76 * k) = nI ((lP A k).1 1 6) ∧ acc 57 (76 * k + 1) = nI ((lP A k).1 1 1) ∧ (∀ p, p < lA A 1 2 → acc 57 (76 * k + 2 + p) = nI ((lP A k).1 2 p) ∧ acc 57 (76 * k + 8 + p) = nI ((lP A k).1 5 p) ∧ acc 57 (76 * k + 14 + p) = nI ((lP A k).1 6 p)) ∧
    ∀ who, who < lA A 1 2 ∨ who = 6 → rI_ (acc 57) (76 * k + 20 + 8 * who) ((lP A k).2 who))
/-- where the land that stands lies -/
def mlL (I : iF) (f i : Nat) : Int32 := if f = 0 then I 136 59 else if f = 57 then I 179 i else I (136 + f) i
/-- sayings -/
def tbR (row : Nat → Int32) (n : Nat) (T : Nat → Nat → Bool) : Prop := ∀ s, s < n → rI_ row (8 * s) (T s)
