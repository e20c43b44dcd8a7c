/-! P2 MDAY3: the model: dayPasses -/
theorem lW_day0 {A : ld_t} (W : lW A) (hd : lA A 1 6 < 20000) : lW (a_day0 A) := by
  obtain ⟨w1, w2, w3, w4, w5, w6⟩ := W
  have e : ∀ f i, ¬ (f = 1 ∧ i = 6) → ¬ (f = 5 ∨ f = 6) → lA (a_day0 A) f i = lA A f i := fun f i h1 h2 => by
    show (if f = 1 ∧ i = 6 then _ else if f = 5 ∨ f = 6 then 0 else _) = _
    rw [if_neg h1, if_neg h2]
    rfl
  have e6 : lA (a_day0 A) 1 6 = lA A 1 6 + 1 := rfl
  have e56 : ∀ p, lA (a_day0 A) 5 p = 0 ∧ lA (a_day0 A) 6 p = 0 := fun p => ⟨rfl, rfl⟩
  unfold lW
  simp only [e _ _ (show ¬ ((1 : Nat) = 1 ∧ (0 : Nat) = 6) by omega) (by omega), e _ _ (show ¬ ((1 : Nat) = 1 ∧ (1 : Nat) = 6) by omega) (by omega), e _ _ (show ¬ ((1 : Nat) = 1 ∧ (2 : Nat) = 6) by omega) (by omega), e _ _ (show ¬ ((1 : Nat) = 1 ∧ (3 : Nat) = 6) by omega) (by omega), e _ _ (show ¬ ((1 : Nat) = 1 ∧ (4 : Nat) = 6) by omega) (by omega), e _ _ (show ¬ ((1 : Nat) = 1 ∧ (5 : Nat) = 6) by omega) (by omega), e _ _ (show ¬ ((1 : Nat) = 1 ∧ (7 : Nat) = 6) by omega) (by omega), e _ _ (show ¬ ((0 : Nat) = 1 ∧ (0 : Nat) = 6) by omega) (by omega), e6]
  refine ⟨by omega, fun p hp => ?_, fun k hk => ?_, fun k hk => ?_, fun k hk => ?_, w6⟩
  · rw [e 2 p (by omega) (by omega), e 3 p (by omega) (by omega), e 4 p (by omega) (by omega), (e56 p).1, (e56 p).2]
    have := w2 p hp
    omega
  · rw [e 7 k (by omega) (by omega)]
    exact w3 k hk
  · rw [e 8 k (by omega) (by omega), e 9 k (by omega) (by omega), e 10 k (by omega) (by omega)]
    exact w4 k hk
  · rw [e 11 k (by omega) (by omega), e 12 k (by omega) (by omega)]
    exact w5 k hk
section MD3
variable {q : ph_t} {I : iF} {L : lF_} {A : ld_t} {T : Nat → Nat → Bool} {sM : Nat}
theorem kE_dayPasses (K : mK q I A T sM) (hd : lA A 1 6 < 20000) : ∃ I', fX3_dayPasses 136 (hw q I L) = some ((), hw q I' L) ∧ frL I I' ∧ mK q I' (a_day A) T sM := by
  have K0 := K
  obtain ⟨M, R, hT, hsM, hW, h24⟩ := K
  have h6 := hW.1.2.2.1
  have fin : ∀ I' : iF, (∀ a, a ≠ 137 → a ≠ 141 → a ≠ 142 → I' a = I a) → (∀ j, I' 137 j = if j = 6 then nI (lA A 1 6 + 1) else I 137 j) → (∀ k, k < 6 → I' 141 k = nI 0 ∧ I' 142 k = nI 0) → mK q I' (a_day0 A) T sM := by
    intro I' f1 f2 f3
    refine K0.next (fun a ha => f1 a (by omega) (by omega) (by omega)) ?_ (lW_day0 hW hd)
    obtain ⟨r1, r2, r3⟩ := R
    refine ⟨fun f i hi => ?_, ?_, ?_⟩
    · have hi : i < rnF A f := by
        have : rnF (a_day0 A) f = rnF A f := by
          unfold rnF
          rfl
        rw [← this]; exact hi
      have hf : f ≤ 14 := by
        refine Nat.le_of_not_lt fun z => ?_
        have : rnF A f = 0 := by
          unfold rnF
          rw [if_neg (by omega), if_neg (by omega), if_neg (by omega), if_neg (by omega), if_neg (by omega), if_neg (by omega), if_neg (by omega)]
        omega
      have r := r1 f i hi
      unfold mlL at r ⊢
      show _ = nI (if f = 1 ∧ i = 6 then lA A 1 6 + 1 else if f = 5 ∨ f = 6 then 0 else lA A f i)
      by_cases g0 : f = 0
      · rw [if_pos g0] at r ⊢
        rw [f1 136 (by decide) (by decide) (by decide), if_neg (by omega), if_neg (by omega)]
        exact r
      · rw [if_neg g0, if_neg (by omega)] at r ⊢
        by_cases g1 : f = 1
        · subst g1
          rw [show 136 + 1 = 137 from rfl] at r ⊢
          rw [f2]
          by_cases g2 : i = 6
          · rw [if_pos g2, if_pos ⟨rfl, g2⟩]
          · rw [if_neg g2, if_neg (by omega), if_neg (by omega)]
            exact r
        · rw [if_neg (fun z => g1 z.1)]
          by_cases g5 : f = 5 ∨ f = 6
          · rw [if_pos g5]
            have hi6 : i < 6 := by
              have : rnF A f = lA A 1 2 := by
                unfold rnF
                rw [if_neg (by omega), if_neg (by omega), if_pos (by omega)]
              omega
            rcases g5 with rfl | rfl
            · exact (f3 i hi6).1
            · exact (f3 i hi6).2
          · rw [if_neg g5, f1 (136 + f) (by omega) (by omega) (by omega)]
            exact r
    · rw [show mlL I' 15 = mlL I 15 from funext fun j => by unfold mlL; rw [if_neg (by decide), if_neg (by decide), if_neg (by decide), if_neg (by decide), f1 (136 + 15) (by decide) (by decide) (by decide)]]
      exact r2
    · rw [show mlL I' 57 = mlL I 57 from funext fun j => by unfold mlL; rw [if_neg (by decide), if_pos rfl, if_neg (by decide), if_pos rfl, f1 179 (by decide) (by decide) (by decide)]]
      exact r3
  unfold fX3_dayPasses
  have st : ∃ I', fX3_dayPasses_L13 136 (nI 0) (hw q (ph_u I 137 6 (nI (lA A 1 6 + 1))) L) = some ((), hw q I' L) ∧ frL I I' ∧ mK q I' (a_day A) T sM := by
    unfold fX3_dayPasses_L13
    obtain ⟨t, h1, I', rfl, h2, h3⟩ := whl_inv (f := fun s_1 : Int32 × ph_t => fX3_dayPasses_L13_b 136 s_1.1 s_1.2) (P := fun i z => ∃ I', z = (nI i, hw q I' L) ∧ (∀ a, a ≠ 137 → a ≠ 141 → a ≠ 142 → I' a = I a) ∧ (∀ j, I' 137 j = if j = 6 then nI (lA A 1 6 + 1) else I 137 j) ∧ ∀ k, k < i → I' 141 k = nI 0 ∧ I' 142 k = nI 0) (Q := fun t => ∃ I', t = ((), hw q I' L) ∧ frL I I' ∧ mK q I' (a_day A) T sM) 6 (by
      rintro i z hi ⟨I', rfl, f1, f2, f3⟩
      by_cases c : i < 6
      · left
        refine ⟨c, _, by simp (disch := omega) only [fX3_dayPasses_L13_b, nL, nI_add, nJ_mul, nJ_div, nJ_mod, nI_leI, nI_ltI, nI_eq, Option.bind_some, Option.bind_none, Nat.one_ne_zero, Nat.zero_ne_one, Nat.zero_add, Nat.add_zero, if_true, if_false, not_true_eq_false, not_false_eq_true, gm5 M, gm6 M, ym141 M, ym142 M, show ¬ 6 ≤ i by omega] <;> rfl, _, rfl, fun a a1 a2 a3 => by rw [pu_ne a3, pu_ne a2]; exact f1 a a1 a2 a3, fun j => by rw [pu_ne (by decide), pu_ne (by decide)]; exact f2 j, fun k hk => ?_⟩
        rw [pu_ne (show 141 ≠ 142 by decide), pu_at, pu_at, pu_ne (show 142 ≠ 141 by decide)]
        by_cases c2 : k = i
        · rw [if_pos c2, if_pos c2]
          exact ⟨rfl, rfl⟩
        · rw [if_neg c2, if_neg c2]
          exact f3 k (by omega)
      · right
        have : i = 6 := by omega
        subst this
        have K6 := fin I' f1 f2 f3
        obtain ⟨I2, e1, e2, e3⟩ := kE_turns (L := L) K6
        exact ⟨_, by simp (disch := omega) only [fX3_dayPasses_L13_b, nL, nI_add, nJ_mul, nJ_div, nJ_mod, nI_leI, nI_ltI, nI_eq, Option.bind_some, Option.bind_none, Nat.one_ne_zero, Nat.zero_ne_one, Nat.zero_add, Nat.add_zero, if_true, if_false, not_true_eq_false, not_false_eq_true, Nat.le_refl, e1, xr_s] <;> rfl, I2, rfl, frL.tr (fun a ha => f1 a (by omega) (by omega) (by omega)) e2, e3⟩) 0 _ (by omega) ⟨_, rfl, fun a a1 _ _ => pu_ne a1, fun j => by rw [pu_at], fun k hk => by omega⟩
    exact ⟨I', h1, h2, h3⟩
  obtain ⟨I', e1, e2, e3⟩ := st
  refine ⟨I', ?_, e2, e3⟩
  simp (disch := omega) only [nL, nI_add, nJ_mul, nJ_div, nJ_mod, nI_leI, nI_ltI, nI_eq, Option.bind_some, Option.bind_none, Nat.one_ne_zero, Nat.zero_ne_one, Nat.zero_add, Nat.add_zero, if_true, if_false, not_true_eq_false, not_false_eq_true, gm1 M, xm137 M, ym137 M, rm1 R, e1]
end MD3
