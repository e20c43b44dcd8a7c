/-! P2 BCORE: a Gorge's standing part and its changing part -/
def glS (I : iF) (L : lF_) (g : Nat) (A : ld_t) : Prop :=
  (I g 0 = nI (lA A 1 0) ∧ I g 2 = nI (lA A 1 2) ∧ I g 3 = nI (lA A 1 3) ∧ I g 4 = nI (lA A 1 4) ∧ I g 5 = nI (lA A 1 5) ∧ I g 7 = nI (lA A 0 0) ∧ I g 8 = nI (lA A 1 7)) ∧
  (∀ p, p < lA A 1 2 → I (g + 2) p = nI (lA A 3 p) ∧ I (g + 3) p = nI (lA A 4 p)) ∧
  (∀ k, k < lA A 1 3 → I (g + 6) k = nI (lA A 7 k)) ∧
  (∀ a b, a < lA A 1 3 → b < lA A 1 3 → I (g + 7) (6 * a + b) = nI (min (a_far A (6 * a + b)) 9999)) ∧
  (∀ t, t < lA A 1 5 → I (g + 8) t = nI (lA A 11 t) ∧ I (g + 9) t = nI (lA A 12 t)) ∧
  (∀ k, k < lA A 1 7 → I (g + 10) (2 * k) = nI (lA A 13 k) ∧ I (g + 10) (2 * k + 1) = nI (lA A 14 k)) ∧
  ∀ k, k < lA A 0 0 → (I (g + 13) (20 * k) = nI ((lP A k).1 1 1) ∧ I (g + 13) (20 * k + 1) = nI ((lP A k).1 1 6) ∧ (∀ p, p < lA A 1 2 → I (g + 13) (20 * k + 2 + p) = nI ((lP A k).1 2 p) ∧ I (g + 13) (20 * k + 8 + p) = nI ((lP A k).1 5 p) ∧ I (g + 13) (20 * k + 14 + p) = nI ((lP A k).1 6 p)) ∧
    ∀ who, who < lA A 1 2 ∨ who = 6 → rL_ (L (g + 12)) (28 * k + 4 * who) ((lP A k).2 who))
def glD (I : iF) (L : lF_) (g : Nat) (A : ld_t) : Prop :=
  I g 1 = nI (lA A 1 1) ∧ I g 6 = nI (lA A 1 6) ∧ (∀ p, p < lA A 1 2 → I (g + 1) p = nI (lA A 2 p) ∧ I (g + 4) p = nI (lA A 5 p) ∧ I (g + 5) p = nI (lA A 6 p)) ∧ ∀ who, who < lA A 1 2 ∨ who = 6 → rL_ (L (g + 11)) (4 * who) (lH A who)
theorem glR.S {I : iF} {L : lF_} {g : Nat} {A : ld_t} (R : glR I L g A) : glS I L g A :=
  ⟨⟨R.f0, R.f2, R.f3, R.f4, R.f5, R.f7, R.f8⟩, fun p hp => ⟨R.p2 hp, R.p3 hp⟩, R.2.2.1, R.2.2.2.1, R.2.2.2.2.1, R.2.2.2.2.2.1, R.2.2.2.2.2.2.2⟩
theorem glR.D {I : iF} {L : lF_} {g : Nat} {A : ld_t} (R : glR I L g A) : glD I L g A :=
  ⟨R.f1, R.f6, fun p hp => ⟨R.p1 hp, R.p4 hp, R.p5 hp⟩, R.2.2.2.2.2.2.1⟩
theorem glR_SD {I : iF} {L : lF_} {g : Nat} {A : ld_t} (S : glS I L g A) (D : glD I L g A) : glR I L g A := by
  obtain ⟨⟨s0, s2, s3, s4, s5, s7, s8⟩, sp, k7, fa, tu, tr, ps⟩ := S
  obtain ⟨d1, d6, dp, dh⟩ := D
  exact ⟨⟨s0, d1, s2, s3, s4, s5, d6, s7, s8⟩, fun p hp => ⟨(dp p hp).1, (sp p hp).1, (sp p hp).2, (dp p hp).2.1, (dp p hp).2.2⟩, k7, fa, tu, tr, dh, ps⟩
/-- a place of a land that acts don't change -/
def stF (f i : Nat) : Prop := f ≠ 2 ∧ f ≠ 5 ∧ f ≠ 6 ∧ ¬ (f = 1 ∧ i = 1) ∧ ¬ (f = 1 ∧ i = 6) ∧ ¬ (f = 1 ∧ i = 8)
theorem glS_cong {I I' : iF} {L L' : lF_} {g : Nat} {A A' : ld_t} (S : glS I L g A) (hg : ∀ j, j ≠ 1 → j ≠ 6 → I' g j = I g j) (h : ∀ a, (a = g + 2 ∨ a = g + 3 ∨ (g + 6 ≤ a ∧ a ≤ g + 10) ∨ a = g + 13) → I' a = I a) (hL : L' (g + 12) = L (g + 12)) (hA : ∀ f i, stF f i → lA A' f i = lA A f i) (hP : lP A' = lP A) : glS I' L' g A' := by
  have s : ∀ {f i : Nat}, f ≠ 2 → f ≠ 5 → f ≠ 6 → (f ≠ 1 ∨ (i ≠ 1 ∧ i ≠ 6 ∧ i ≠ 8)) → lA A' f i = lA A f i := fun {f i} h1 h2 h3 h4 => hA f i ⟨h1, h2, h3, by omega, by omega, by omega⟩
  have ef : a_far A' = a_far A := a_far_eq (s (by decide) (by decide) (by decide) (by decide)) (fun f k h1 h2 => s (by omega) (by omega) (by omega) (by omega))
  unfold glS
  rw [ef, hP, hL, hg 0 (by decide) (by decide), hg 2 (by decide) (by decide), hg 3 (by decide) (by decide), hg 4 (by decide) (by decide), hg 5 (by decide) (by decide), hg 7 (by decide) (by decide), hg 8 (by decide) (by decide), h (g + 2) (by omega), h (g + 3) (by omega), h (g + 6) (by omega), h (g + 7) (by omega), h (g + 8) (by omega), h (g + 9) (by omega), h (g + 10) (by omega), h (g + 13) (by omega)]
  have e1 : ∀ j, (j ≠ 1 ∧ j ≠ 6 ∧ j ≠ 8) → lA A' 1 j = lA A 1 j := fun j hj => s (by decide) (by decide) (by decide) (Or.inr hj)
  have e2 : ∀ f, (f = 0 ∨ f = 3 ∨ f = 4 ∨ 7 ≤ f) → ∀ j, lA A' f j = lA A f j := fun f hf j => s (by omega) (by omega) (by omega) (by omega)
  simp only [e1 0 (by decide), e1 2 (by decide), e1 3 (by decide), e1 4 (by decide), e1 5 (by decide), e1 7 (by decide), e2 0 (by decide), e2 3 (by decide), e2 4 (by decide), e2 7 (by decide), e2 11 (by decide), e2 12 (by decide), e2 13 (by decide), e2 14 (by decide)]
  exact S
