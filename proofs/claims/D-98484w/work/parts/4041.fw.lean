/-! P2 FW: hours between places are few, or there is no way -/
theorem fo_ind {α : Type} {f : Nat → α → α} {a : α} (P : α → Prop) (h0 : P a) : ∀ (n : Nat), (∀ i x, i < n → P x → P (f i x)) → P (fo_ f a n)
  | 0, _ => h0
  | n + 1, h => h n _ (by omega) (fo_ind P h0 n fun i x hi => h i x (by omega))
def fwR (B : Nat) (D : Nat → Nat) : Prop := ∀ j, D j ≤ B ∨ D j = 100000
def fwZ (D : Nat → Nat) : Prop := ∀ x, x < 6 → D (6 * x + x) = 0
theorem fwZ_S {D : Nat → Nat} {m a b : Nat} (ha : a < 6) (hb : b < 6) (h : fwZ D) : fwZ (fwS m a b D) := by
  intro x hx
  unfold fwS upN
  by_cases c : 6 * x + x = 6 * a + b
  · rw [if_pos c]
    have : a = x := by omega
    have : b = x := by omega
    subst a b
    rw [h x hx]
    omega
  · rw [if_neg c]
    exact h x hx
theorem fwA_ok {D : Nat → Nat} {B m : Nat} (hm : m < 6) (hB : 2 * B < 100000) (hR : fwR B D) (hZ : fwZ D) : fwR (2 * B) (fwA m D) ∧ fwZ (fwA m D) := by
  have step : ∀ (a b : Nat) (E : Nat → Nat), a < 6 → b < 6 → ((∀ x, x < 6 → E (6 * x + m) = D (6 * x + m)) ∧ (∀ x, x < 6 → E (6 * m + x) = D (6 * m + x)) ∧ fwR (2 * B) E ∧ fwZ E) → ((∀ x, x < 6 → fwS m a b E (6 * x + m) = D (6 * x + m)) ∧ (∀ x, x < 6 → fwS m a b E (6 * m + x) = D (6 * m + x)) ∧ fwR (2 * B) (fwS m a b E) ∧ fwZ (fwS m a b E)) := by
    rintro a b E ha hb ⟨h1, h2, h3, h4⟩
    refine ⟨fun x hx => ?_, fun x hx => ?_, fun j => ?_, fwZ_S ha hb h4⟩
    · unfold fwS upN
      by_cases c : 6 * x + m = 6 * a + b
      · rw [if_pos c]
        have : a = x := by omega
        have : b = m := by omega
        subst a b
        rw [h4 m hm, h1 x hx]
        omega
      · rw [if_neg c]; exact h1 x hx
    · unfold fwS upN
      by_cases c : 6 * m + x = 6 * a + b
      · rw [if_pos c]
        have : a = m := by omega
        have : b = x := by omega
        subst a b
        rw [h4 m hm, h2 x hx]
        omega
      · rw [if_neg c]; exact h2 x hx
    · unfold fwS upN
      by_cases c : j = 6 * a + b
      · rw [if_pos c, h1 a ha, h2 b hb]
        have r1 := hR (6 * a + m)
        have r2 := hR (6 * m + b)
        have r3 := h3 (6 * a + b)
        omega
      · rw [if_neg c]; exact h3 j
  have := fo_ind (f := fun a D => fwB m a D) (a := D) (fun E => (∀ x, x < 6 → E (6 * x + m) = D (6 * x + m)) ∧ (∀ x, x < 6 → E (6 * m + x) = D (6 * m + x)) ∧ fwR (2 * B) E ∧ fwZ E) ⟨fun _ _ => rfl, fun _ _ => rfl, fun j => by have := hR j; omega, hZ⟩ 6 (fun a E ha hE => fo_ind (f := fun b D => fwS m a b D) (a := E) _ hE 6 (fun b F hb hF => step a b F ha hb hF))
  exact ⟨this.2.2.1, this.2.2.2⟩
theorem fwQ_ok {A : ld_t} (W : lW A) : fwR 9 (fwQ A) ∧ fwZ (fwQ A) := by
  refine fo_ind (f := fwP A) (a := fw0) (fun D => fwR 9 D ∧ fwZ D) ⟨fun j => ?_, fun x hx => ?_⟩ (lA A 1 4) (fun i D hi hD => ?_)
  · unfold fw0
    split
    · left; omega
    · right; rfl
  · unfold fw0
    rw [if_pos (by omega)]
  · obtain ⟨h1, h2⟩ := hD
    obtain ⟨w1, w2, w3, w4⟩ := W.2.2.2.1 i hi
    have w6 := W.1.2.2.2.1
    have b1 := h1 (6 * lA A 8 i + lA A 9 i)
    refine ⟨fun j => ?_, fun x hx => ?_⟩
    · unfold fwP upN
      split
      · left; omega
      · split
        · left; omega
        · exact h1 j
    · have hz : lA A 8 i = lA A 9 i → D (6 * lA A 8 i + lA A 9 i) = 0 := fun e => by
        have := h2 (lA A 8 i) (by omega)
        rw [← e]; exact this
      unfold fwP upN
      split
      · rename_i c
        rw [hz (by omega)]
        omega
      · split
        · rename_i c
          rw [hz (by omega)]
          omega
        · exact h2 x hx
theorem far_n {A : ld_t} (W : lW A) : ∀ n, n ≤ 6 → fwR (9 * 2 ^ n) (fo_ fwA (fwQ A) n) ∧ fwZ (fo_ fwA (fwQ A) n)
  | 0, _ => by
    obtain ⟨r0, z0⟩ := fwQ_ok W
    exact ⟨r0, z0⟩
  | n + 1, h => by
    obtain ⟨r, z⟩ := far_n W n (by omega)
    have hp : 2 ^ n ≤ 2 ^ 5 := Nat.pow_le_pow_right (by omega) (by omega)
    have hs : 2 ^ (n + 1) = 2 * 2 ^ n := by rw [Nat.pow_succ]; omega
    obtain ⟨r1, z1⟩ := fwA_ok (m := n) (by omega) (by omega) r z
    refine ⟨fun j => ?_, z1⟩
    have := r1 j
    rw [hs]
    show fwA n (fo_ fwA (fwQ A) n) j ≤ _ ∨ fwA n (fo_ fwA (fwQ A) n) j = _
    omega
theorem far_ok {A : ld_t} (W : lW A) : fwR 576 (a_far A) ∧ fwZ (a_far A) := by
  obtain ⟨r, z⟩ := far_n W 6 (Nat.le_refl 6)
  have e : 9 * 2 ^ 6 = 576 := rfl
  rw [e] at r
  unfold a_far
  exact ⟨r, z⟩
