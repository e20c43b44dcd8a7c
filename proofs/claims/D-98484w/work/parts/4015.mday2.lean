/-! P2 MDAY2: the model: a day passes -/
def a_day0 (A : ld_t) : ld_t := (fun f i => if f = 1 ∧ i = 6 then lA A 1 6 + 1 else if f = 5 ∨ f = 6 then 0 else A.1 f i, A.2)
def a_turn (A : ld_t) (t : Nat) : ld_t := if lA A 12 t = lA A 1 6 then a_fg (lSet A 1 1 (lA A 1 1 ^^^ 2 ^ lA A 11 t)) (lA A 11 t) else A
def a_turns (A : ld_t) : Nat → ld_t
  | 0 => A
  | n + 1 => a_turn (a_turns A n) n
def a_day (A : ld_t) : ld_t := a_turns (a_day0 A) (lA A 1 5)
theorem a_turn_A {A : ld_t} {t f i : Nat} (h : ¬ (f = 1 ∧ i = 1)) : lA (a_turn A t) f i = lA A f i := by
  unfold a_turn
  split
  · show lA (lSet A 1 1 _) f i = _
    rw [lSet_A, if_neg h]
  · rfl
theorem a_turns_A {A : ld_t} {f i : Nat} (h : ¬ (f = 1 ∧ i = 1)) : ∀ n, lA (a_turns A n) f i = lA A f i
  | 0 => rfl
  | n + 1 => by
    show lA (a_turn (a_turns A n) n) f i = _
    rw [a_turn_A h, a_turns_A h n]
theorem lW_so {A : ld_t} {v : Nat} (W : lW A) (hv : v < 2 ^ lA A 1 0) : lW (lSet A 1 1 v) := by
  obtain ⟨w1, w2, w3, w4, w5, w6⟩ := W
  refine ⟨?_, by simpa [lSet_A] using w2, by simpa [lSet_A] using w3, by simpa [lSet_A] using w4, by simpa [lSet_A] using w5, by simpa [lSet_A, lSet_H] using w6⟩
  simp only [lSet_A, show ¬ ((1 : Nat) = 1 ∧ (0 : Nat) = 1) by omega, show ¬ ((1 : Nat) = 1 ∧ (2 : Nat) = 1) by omega, show ¬ ((1 : Nat) = 1 ∧ (3 : Nat) = 1) by omega, show ¬ ((1 : Nat) = 1 ∧ (4 : Nat) = 1) by omega, show ¬ ((1 : Nat) = 1 ∧ (5 : Nat) = 1) by omega, show ¬ ((1 : Nat) = 1 ∧ (6 : Nat) = 1) by omega, show ¬ ((1 : Nat) = 1 ∧ (7 : Nat) = 1) by omega, show ¬ ((0 : Nat) = 1 ∧ (0 : Nat) = 1) by omega, show ((1 : Nat) = 1 ∧ (1 : Nat) = 1) from ⟨rfl, rfl⟩, if_true, if_false]
  exact ⟨w1.1, hv, w1.2.2⟩
section MD2
variable {q : ph_t} {I : iF} {L : lF_} {A : ld_t} {T : Nat → Nat → Bool} {sM : Nat}
theorem kE_turn (K : mK q I A T sM) {t : Nat} (ht : t < lA A 1 5) : ∃ I', fX3_dayPasses_L41_b 136 (nI t) (hw q I L) = some (.inl (nI (t + 1), hw q I' L)) ∧ frL I I' ∧ mK q I' (a_turn A t) T sM := by
  have K0 := K
  obtain ⟨M, R, hT, hsM, hW, h24⟩ := K
  have h5 := hW.1.2.2.2.2.2.1
  have h8 := p2_8 hW.1.1
  have hn8 := hW.1.1
  have hso := hW.1.2.1
  have hdy := hW.1.2.2.2.2.2.2.1
  obtain ⟨t1, t2⟩ := hW.2.2.2.2.1 t ht
  have ef := nJ_shl (k := lA A 11 t) (by omega)
  rw [nL 1] at ef
  unfold a_turn
  by_cases c : lA A 12 t = lA A 1 6
  · rw [if_pos c]
    have R2 : mlR (mlL (ph_u I 137 1 (nI (lA A 1 1 ^^^ 2 ^ lA A 11 t)))) (lSet A 1 1 (lA A 1 1 ^^^ 2 ^ lA A 11 t)) := mlR_set (f := 1) R (by omega) (by omega)
    have K2 : mK q (ph_u I 137 1 (nI (lA A 1 1 ^^^ 2 ^ lA A 11 t))) (lSet A 1 1 (lA A 1 1 ^^^ 2 ^ lA A 11 t)) T sM := K0.next (frL.rf.up (by omega)) R2 (lW_so hW (Nat.xor_lt_two_pow hso (Nat.pow_lt_pow_right (by decide) t1)))
    obtain ⟨I3, e1, e2, e3⟩ := kE_forgets (L := L) K2 (f := lA A 11 t) (by rw [lSet_A, if_neg (by omega)]; exact t1)
    refine ⟨I3, ?_, (frL.rf.up (by omega)).tr e2, e3⟩
    simp (disch := omega) only [fX3_dayPasses_L41_b, fX3_dayPasses_L94, nL, nI_add, nJ_mul, nJ_div, nJ_mod, nI_leI, nI_ltI, nI_eq, Option.bind_some, Option.bind_none, Nat.one_ne_zero, Nat.zero_ne_one, Nat.zero_add, Nat.add_zero, if_true, if_false, not_true_eq_false, not_false_eq_true, gm1 M, xm137 M, ym137 M, rm1 R, gm12 M, xm148 M, rm12 R, c, show ¬ lA A 1 5 ≤ t by omega, gm11 M, xm147 M, rm11 R, pu_ne, ef, nJ_xor, dm M, e1]
  · rw [if_neg c]
    refine ⟨I, ?_, frL.rf, K0⟩
    simp (disch := omega) only [fX3_dayPasses_L41_b, fX3_dayPasses_L94, nL, nI_add, nJ_mul, nJ_div, nJ_mod, nI_leI, nI_ltI, nI_eq, Option.bind_some, Option.bind_none, Nat.one_ne_zero, Nat.zero_ne_one, Nat.zero_add, Nat.add_zero, if_true, if_false, not_true_eq_false, not_false_eq_true, gm1 M, xm137 M, rm1 R, gm12 M, xm148 M, rm12 R, c, show ¬ lA A 1 5 ≤ t by omega]
theorem kE_turns (K : mK q I A T sM) : ∃ I', fX3_dayPasses_L41 136 (nI 0) (hw q I L) = some ((), hw q I' L) ∧ frL I I' ∧ mK q I' (a_turns A (lA A 1 5)) T sM := by
  unfold fX3_dayPasses_L41
  obtain ⟨t, h1, I', rfl, h2, h3⟩ := whl_inv (f := fun s_1 : Int32 × ph_t => fX3_dayPasses_L41_b 136 s_1.1 s_1.2) (P := fun i z => ∃ I', z = (nI i, hw q I' L) ∧ frL I I' ∧ mK q I' (a_turns A i) T sM) (Q := fun t => ∃ I', t = ((), hw q I' L) ∧ frL I I' ∧ mK q I' (a_turns A (lA A 1 5)) T sM) (lA A 1 5) (by
      rintro i z hi ⟨I', rfl, h2, h3⟩
      have e5 : lA (a_turns A i) 1 5 = lA A 1 5 := a_turns_A (by omega) i
      by_cases c : i < lA A 1 5
      · left
        obtain ⟨I2, e1, e2, e3⟩ := kE_turn (L := L) h3 (t := i) (by omega)
        exact ⟨c, _, e1, I2, rfl, h2.tr e2, e3⟩
      · right
        have : i = lA A 1 5 := by omega
        subst this
        have M := h3.1
        have b5 := h3.2.2.2.2.1.1.2.2.2.2.2.1
        exact ⟨_, by simp (disch := omega) only [fX3_dayPasses_L41_b, nL, nI_add, nJ_mul, nJ_div, nJ_mod, nI_leI, nI_ltI, nI_eq, Option.bind_some, Option.bind_none, Nat.one_ne_zero, Nat.zero_ne_one, Nat.zero_add, Nat.add_zero, if_true, if_false, not_true_eq_false, not_false_eq_true, gm1 M, xm137 M, rm1 h3.2.1, e5, Nat.le_refl, xr_s] <;> rfl, I', rfl, h2, h3⟩) 0 _ (by omega) ⟨I, rfl, frL.rf, K⟩
  exact ⟨I', h1, h2, h3⟩
end MD2
