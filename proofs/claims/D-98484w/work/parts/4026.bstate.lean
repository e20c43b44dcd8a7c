/-! P2 BSTATE: TruthBridge's land, at a Gorge's place -/
def glR (I : iF) (L : lF_) (g : Nat) (A : ld_t) : Prop :=
  (I g 0 = nI (lA A 1 0) ∧ I g 1 = nI (lA A 1 1) ∧ I g 2 = nI (lA A 1 2) ∧ I g 3 = nI (lA A 1 3) ∧ I g 4 = nI (lA A 1 4) ∧ I g 5 = nI (lA A 1 5) ∧ I g 6 = nI (lA A 1 6) ∧ I g 7 = nI (lA A 0 0) ∧ I g 8 = nI (lA A 1 7)) ∧
  (∀ p, p < lA A 1 2 → I (g + 1) p = nI (lA A 2 p) ∧ I (g + 2) p = nI (lA A 3 p) ∧ I (g + 3) p = nI (lA A 4 p) ∧ I (g + 4) p = nI (lA A 5 p) ∧ I (g + 5) p = nI (lA A 6 p)) ∧
  (∀ k, k < lA A 1 3 → I (g + 6) k = nI (lA A 7 k)) ∧
  (∀ a b, a < lA A 1 3 → b < lA A 1 3 → I (g + 7) (6 * a + b) = nI (min (a_far A (6 * a + b)) 9999)) ∧
  (∀ t, t < lA A 1 5 → I (g + 8) t = nI (lA A 11 t) ∧ I (g + 9) t = nI (lA A 12 t)) ∧
  (∀ k, k < lA A 1 7 → I (g + 10) (2 * k) = nI (lA A 13 k) ∧ I (g + 10) (2 * k + 1) = nI (lA A 14 k)) ∧
  (∀ who, who < lA A 1 2 ∨ who = 6 → rL_ (L (g + 11)) (4 * who) (lH A who)) ∧
  ∀ k, k < lA A 0 0 → (I (g + 13) (20 * k) = nI ((lP A k).1 1 1) ∧ I (g + 13) (20 * k + 1) = nI ((lP A k).1 1 6) ∧ (∀ p, p < lA A 1 2 → I (g + 13) (20 * k + 2 + p) = nI ((lP A k).1 2 p) ∧ I (g + 13) (20 * k + 8 + p) = nI ((lP A k).1 5 p) ∧ I (g + 13) (20 * k + 14 + p) = nI ((lP A k).1 6 p)) ∧
    ∀ who, who < lA A 1 2 ∨ who = 6 → rL_ (L (g + 12)) (28 * k + 4 * who) ((lP A k).2 who))
/-- sayings in longs -/
def tlR (row : Nat → Int64) (n : Nat) (T : Nat → Nat → Bool) : Prop := ∀ s, s < n → rL_ row (4 * s) (T s)
/-- TruthBridge, and a land at g -/
def bK (q : ph_t) (g : Nat) (I : iF) (L : lF_) (A : ld_t) (T : Nat → Nat → Bool) (sM : Nat) : Prop := XS q ∧ GS q g ∧ glR I L g A ∧ tlR (L 65) sM T ∧ I 64 1 = nI sM ∧ lW A ∧ sM ≤ 24 ∧ 66 ≤ g
section BST
variable {I : iF} {L : lF_} {g : Nat} {A : ld_t}
theorem glR.f0 (R : glR I L g A) : I g 0 = nI (lA A 1 0) := R.1.1
theorem glR.f1 (R : glR I L g A) : I g 1 = nI (lA A 1 1) := R.1.2.1
theorem glR.f2 (R : glR I L g A) : I g 2 = nI (lA A 1 2) := R.1.2.2.1
theorem glR.f3 (R : glR I L g A) : I g 3 = nI (lA A 1 3) := R.1.2.2.2.1
theorem glR.f4 (R : glR I L g A) : I g 4 = nI (lA A 1 4) := R.1.2.2.2.2.1
theorem glR.f5 (R : glR I L g A) : I g 5 = nI (lA A 1 5) := R.1.2.2.2.2.2.1
theorem glR.f6 (R : glR I L g A) : I g 6 = nI (lA A 1 6) := R.1.2.2.2.2.2.2.1
theorem glR.f7 (R : glR I L g A) : I g 7 = nI (lA A 0 0) := R.1.2.2.2.2.2.2.2.1
theorem glR.f8 (R : glR I L g A) : I g 8 = nI (lA A 1 7) := R.1.2.2.2.2.2.2.2.2
theorem glR.p1 (R : glR I L g A) {p : Nat} (h : p < lA A 1 2) : I (g + 1) p = nI (lA A 2 p) := (R.2.1 p h).1
theorem glR.p2 (R : glR I L g A) {p : Nat} (h : p < lA A 1 2) : I (g + 2) p = nI (lA A 3 p) := (R.2.1 p h).2.1
theorem glR.p3 (R : glR I L g A) {p : Nat} (h : p < lA A 1 2) : I (g + 3) p = nI (lA A 4 p) := (R.2.1 p h).2.2.1
theorem glR.p4 (R : glR I L g A) {p : Nat} (h : p < lA A 1 2) : I (g + 4) p = nI (lA A 5 p) := (R.2.1 p h).2.2.2.1
theorem glR.p5 (R : glR I L g A) {p : Nat} (h : p < lA A 1 2) : I (g + 5) p = nI (lA A 6 p) := (R.2.1 p h).2.2.2.2
theorem glR.p6 (R : glR I L g A) {k : Nat} (h : k < lA A 1 3) : I (g + 6) k = nI (lA A 7 k) := R.2.2.1 k h
theorem glR.p7 (R : glR I L g A) {a b : Nat} (h : a < lA A 1 3) (h2 : b < lA A 1 3) : I (g + 7) (6 * a + b) = nI (min (a_far A (6 * a + b)) 9999) := R.2.2.2.1 a b h h2
theorem glR.p8 (R : glR I L g A) {t : Nat} (h : t < lA A 1 5) : I (g + 8) t = nI (lA A 11 t) := (R.2.2.2.2.1 t h).1
theorem glR.p9 (R : glR I L g A) {t : Nat} (h : t < lA A 1 5) : I (g + 9) t = nI (lA A 12 t) := (R.2.2.2.2.1 t h).2
theorem glR.q10 (R : glR I L g A) {k : Nat} (h : k < lA A 1 7) : I (g + 10) (2 * k) = nI (lA A 13 k) := (R.2.2.2.2.2.1 k h).1
theorem glR.q11 (R : glR I L g A) {k : Nat} (h : k < lA A 1 7) : I (g + 10) (2 * k + 1) = nI (lA A 14 k) := (R.2.2.2.2.2.1 k h).2
theorem glR.hd (R : glR I L g A) {who : Nat} (h : who < lA A 1 2 ∨ who = 6) : rL_ (L (g + 11)) (4 * who) (lH A who) := R.2.2.2.2.2.2.1 who h
theorem rl1 (R : glR I L 66 A) {p : Nat} (h : p < lA A 1 2) : I 67 p = nI (lA A 2 p) := R.p1 h
theorem rl2 (R : glR I L 66 A) {p : Nat} (h : p < lA A 1 2) : I 68 p = nI (lA A 3 p) := R.p2 h
theorem rl3 (R : glR I L 66 A) {p : Nat} (h : p < lA A 1 2) : I 69 p = nI (lA A 4 p) := R.p3 h
theorem rl4 (R : glR I L 66 A) {p : Nat} (h : p < lA A 1 2) : I 70 p = nI (lA A 5 p) := R.p4 h
theorem rl5 (R : glR I L 66 A) {p : Nat} (h : p < lA A 1 2) : I 71 p = nI (lA A 6 p) := R.p5 h
theorem rl6 (R : glR I L 66 A) {k : Nat} (h : k < lA A 1 3) : I 72 k = nI (lA A 7 k) := R.p6 h
theorem rl7 (R : glR I L 66 A) {a b : Nat} (h : a < lA A 1 3) (h2 : b < lA A 1 3) : I 73 (6 * a + b) = nI (min (a_far A (6 * a + b)) 9999) := R.p7 h h2
theorem rl8 (R : glR I L 66 A) {t : Nat} (h : t < lA A 1 5) : I 74 t = nI (lA A 11 t) := R.p8 h
theorem rl9 (R : glR I L 66 A) {t : Nat} (h : t < lA A 1 5) : I 75 t = nI (lA A 12 t) := R.p9 h
theorem rl10 (R : glR I L 66 A) {k : Nat} (h : k < lA A 1 7) : I 76 (2 * k) = nI (lA A 13 k) := R.q10 h
theorem rl11 (R : glR I L 66 A) {k : Nat} (h : k < lA A 1 7) : I 76 (2 * k + 1) = nI (lA A 14 k) := R.q11 h
end BST
