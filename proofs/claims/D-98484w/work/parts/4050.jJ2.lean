/-! P2 JJ2: both answer: walks -/
def hoF (A : ld_t) (H : Nat → Nat) (S : Nat) : Nat := fo_ (fun k x => min (if S.testBit k then H (6 * S + k) + a_far A (6 * k) else 100000) x) (if S = 0 then 0 else 100000) (lA A 1 3)
/-- the places of a set are looked at -/
def seeS (A : ld_t) (p S n : Nat) : ld_t := fo_ (fun k X => if S.testBit k then a_see X p (lA A 7 k) else X) A n
theorem seeS_A {A : ld_t} {p S : Nat} (f i : Nat) : ∀ n, lA (seeS A p S n) f i = lA A f i
  | 0 => rfl
  | n + 1 => by
    refine Eq.trans ?_ (seeS_A (p := p) (S := S) f i n)
    show lA (if S.testBit n then a_see (seeS A p S n) p (lA A 7 n) else seeS A p S n) f i = _
    split <;> rfl
theorem seeS_P {A : ld_t} {p S : Nat} : ∀ n, lP (seeS A p S n) = lP A
  | 0 => rfl
  | n + 1 => by
    refine Eq.trans ?_ (seeS_P (p := p) (S := S) n)
    show lP (if S.testBit n then a_see (seeS A p S n) p (lA A 7 n) else seeS A p S n) = _
    split <;> rfl
theorem seeS_1 {A : ld_t} {p S n : Nat} (h : S.testBit n = true) : seeS A p S (n + 1) = a_see (seeS A p S n) p (lA A 7 n) := if_pos h
theorem seeS_0 {A : ld_t} {p S n : Nat} (h : S.testBit n = false) : seeS A p S (n + 1) = seeS A p S n := if_neg (by rw [h]; decide)
def wkB (A : ld_t) (T : Nat → Nat → Bool) (sM p : Nat) (h : Nat → Nat) (S : Nat) (z : Option Nat × Nat) : Option Nat × Nat := if h S < z.2 ∧ a_can (seeS A p S (lA A 1 3)) T sM p = true then (some S, h S) else z
theorem wkB_1 {A : ld_t} {T : Nat → Nat → Bool} {sM p : Nat} {h : Nat → Nat} {S : Nat} {z : Option Nat × Nat} (h1 : h S < z.2) (h2 : a_can (seeS A p S (lA A 1 3)) T sM p = true) : wkB A T sM p h S z = (some S, h S) := if_pos ⟨h1, h2⟩
theorem wkB_2 {A : ld_t} {T : Nat → Nat → Bool} {sM p : Nat} {h : Nat → Nat} {S : Nat} {z : Option Nat × Nat} (h2 : a_can (seeS A p S (lA A 1 3)) T sM p = false) : wkB A T sM p h S z = z := if_neg (fun y => by rw [h2] at y; cases y.2)
theorem wkB_3 {A : ld_t} {T : Nat → Nat → Bool} {sM p : Nat} {h : Nat → Nat} {S : Nat} {z : Option Nat × Nat} (h1 : ¬ h S < z.2) : wkB A T sM p h S z = z := if_neg (fun y => h1 y.1)
def wkF (A : ld_t) (T : Nat → Nat → Bool) (sM p : Nat) (h : Nat → Nat) (n : Nat) : Option Nat × Nat := fo_ (wkB A T sM p h) (none, 25 - lA A 5 p) n
theorem wkF_ok {A : ld_t} {T : Nat → Nat → Bool} {sM p : Nat} {h : Nat → Nat} : ∀ n, (wkF A T sM p h n).2 ≤ 25 ∧ ∀ k, (wkF A T sM p h n).1 = some k → k < n
  | 0 => ⟨Nat.sub_le _ _, fun k hk => by cases hk⟩
  | n + 1 => by
    obtain ⟨h1, h2⟩ := wkF_ok (A := A) (T := T) (sM := sM) (p := p) (h := h) n
    show (wkB A T sM p h n (wkF A T sM p h n)).2 ≤ 25 ∧ ∀ k, (wkB A T sM p h n (wkF A T sM p h n)).1 = some k → k < n + 1
    by_cases c : h n < (wkF A T sM p h n).2
    · cases d : a_can (seeS A p n (lA A 1 3)) T sM p
      · rw [wkB_2 d]
        exact ⟨h1, fun k hk => by have := h2 k hk; omega⟩
      · rw [wkB_1 c d]
        exact ⟨by dsimp only; omega, fun k hk => by cases hk; omega⟩
    · rw [wkB_3 c]
      exact ⟨h1, fun k hk => by have := h2 k hk; omega⟩
section JJ2
variable {q : ph_t} {I : iF} {L : lF_} {A : ld_t} {T : Nat → Nat → Bool} {sM : Nat}
/-- TruthBridge's row of hours -/
def hrX (J : iF) (n : Nat) (H : Nat → Nat) (m : Nat) : Prop := ∀ j, j < m → j % 6 < n → J 133 j = nI (min (H j) 9999)
theorem bK_wk19 (K : bK q 66 I L A T sM) (hl : ph_R q 64 2 = some 66) {H : Nat → Nat} (hH : wkP (lA A 1 3) (a_far A) H (2 ^ lA A 1 3) 0) {S : Nat} (hS : S < 2 ^ lA A 1 3) {J : iF} (hJ : ∀ a, a ≠ 133 → J a = I a) (h1 : hrX J (lA A 1 3) H (6 * S)) : ∃ J', fX0_fillsWalks_L19 64 (nI (lA A 1 3)) (nI S) (nI 0) (hw q J L) = some (.inl (nI (S + 1), hw q J' L)) ∧ (∀ a, a ≠ 133 → J' a = I a) ∧ hrX J' (lA A 1 3) H (6 * (S + 1)) := by
  obtain ⟨X, G, R, hT, hsM, W, h24, -⟩ := id K
  have w3 := W.1.2.2.2.1
  have hp : 2 ^ lA A 1 3 ≤ 2 ^ 6 := Nat.pow_le_pow_right (by decide) w3
  have : ∃ t, fX0_fillsWalks_L19 64 (nI (lA A 1 3)) (nI S) (nI 0) (hw q J L) = some t ∧ ∃ J', t = .inl (nI (S + 1), hw q J' L) ∧ (∀ a, a ≠ 133 → J' a = I a) ∧ hrX J' (lA A 1 3) H (6 * (S + 1)) := by
    unfold fX0_fillsWalks_L19
    refine whl_st (α := iF) (fun l U => (nI l, hw q U L)) (fun l U => (∀ a, a ≠ 133 → U a = I a) ∧ hrX U (lA A 1 3) H (6 * S + l)) (lA A 1 3) (a := J) rfl ⟨hJ, h1⟩ ?_ ?_
    · rintro l U hl1 ⟨f1, f2⟩
      obtain ⟨c1, c2, c3, c4⟩ := clr_I S (by omega) l (by omega)
      have ef := nJ_shl (k := l) (by omega)
      rw [nL 1] at ef
      cases c : S.testBit l
      · refine ⟨ph_u U 133 (6 * S + l) (nI 9999), by simp (disch := omega) only [fX0_fillsWalks_L19_b, fX0_fillsWalks_L154, nm_, nL, nI_add, nJ_mul, nJ_div, nJ_mod, nI_leI, nI_ltI, nI_eq, Option.bind_some, Option.bind_none, Nat.one_ne_zero, Nat.zero_ne_one, Nat.zero_add, Nat.add_zero, if_true, if_false, not_true_eq_false, not_false_eq_true, show ¬ lA A 1 3 ≤ l by omega, gx23 X, yx133 X, bE_hasN, c, Bool.false_eq_true], fun a ha => by rw [pu_ne ha]; exact f1 a ha, fun j hj hj6 => ?_⟩
        rw [pu_at]
        by_cases e : j = 6 * S + l
        · rw [if_pos e, e]
          congr 1
          by_cases z : S = 0
          · subst z
            rw [show 6 * 0 + l = l by omega, hH.2.1 l hl1]
            rfl
          · rw [hH.2.2 S l (by omega) hl1 (Or.inl hS)]
            unfold wkL
            rw [if_neg (by rw [c]; decide)]
            rfl
        · rw [if_neg e]
          exact f2 j (by omega) hj6
      · have c4 := c4 c
        by_cases c5 : S = 2 ^ l
        · have e0 : clr S l = 0 := c4.mpr c5
          have e73 : I 73 l = nI (min (a_far A l) 9999) := by
            have := rl7 R (a := 0) (by omega) hl1
            rw [Nat.mul_zero, Nat.zero_add] at this
            exact this
          obtain ⟨U', a1, a2, a3, a4⟩ := bK_wk86 (L := L) K hl hH hS hl1 c (J := ph_u (ph_u U 133 (6 * S + l) (nI 9999)) 133 (6 * S + l) (nI (min (a_far A l) 9999))) (fun a ha => by rw [pu_ne ha, pu_ne ha]; exact f1 a ha) (fun j hj hj6 => by rw [pu_nk (by omega), pu_nk (by omega)]; exact f2 j hj hj6) (by rw [pu_eq, if_pos c5])
          refine ⟨U', by simp (disch := omega) only [fX0_fillsWalks_L19_b, fX0_fillsWalks_L83, nm_, nL, nI_add, nJ_mul, nJ_div, nJ_mod, nI_leI, nI_ltI, nI_eq, Option.bind_some, Option.bind_none, Nat.one_ne_zero, Nat.zero_ne_one, Nat.zero_add, Nat.add_zero, if_true, if_false, not_true_eq_false, not_false_eq_true, show ¬ lA A 1 3 ≤ l by omega, gx23 X, yx133 X, bE_hasN, c, ef, c1, e0, gx2 X hl, gl15 G, xl15 G, pu_ne, f1, e73, e0 ▸ a1], a2, fun j hj hj6 => ?_⟩
          by_cases e : j = 6 * S + l
          · rw [e, a4]
          · rw [a3 j e, pu_nk e, pu_nk e]
            exact f2 j (by omega) hj6
        · have e0 : ¬ clr S l = 0 := fun z => c5 (c4.mp z)
          obtain ⟨U', a1, a2, a3, a4⟩ := bK_wk86 (L := L) K hl hH hS hl1 c (J := ph_u U 133 (6 * S + l) (nI 9999)) (fun a ha => by rw [pu_ne ha]; exact f1 a ha) (fun j hj hj6 => by rw [pu_nk (by omega)]; exact f2 j hj hj6) (by rw [pu_eq, if_neg c5]; rfl)
          refine ⟨U', by simp (disch := omega) only [fX0_fillsWalks_L19_b, fX0_fillsWalks_L83, nm_, nL, nI_add, nJ_mul, nJ_div, nJ_mod, nI_leI, nI_ltI, nI_eq, Option.bind_some, Option.bind_none, Nat.one_ne_zero, Nat.zero_ne_one, Nat.zero_add, Nat.add_zero, if_true, if_false, not_true_eq_false, not_false_eq_true, show ¬ lA A 1 3 ≤ l by omega, gx23 X, yx133 X, bE_hasN, c, ef, c1, e0, a1], a2, fun j hj hj6 => ?_⟩
          by_cases e : j = 6 * S + l
          · rw [e, a4]
          · rw [a3 j e, pu_nk e]
            exact f2 j (by omega) hj6
    · rintro U ⟨f1, f2⟩
      refine ⟨_, by simp (disch := omega) only [fX0_fillsWalks_L19_b, nL, nI_add, nJ_mul, nJ_div, nJ_mod, nI_leI, nI_ltI, nI_eq, Option.bind_some, Option.bind_none, Nat.one_ne_zero, Nat.zero_ne_one, Nat.zero_add, Nat.add_zero, if_true, if_false, not_true_eq_false, not_false_eq_true, Nat.le_refl, xr_s] <;> rfl, U, rfl, f1, fun j hj hj6 => f2 j ?_ hj6⟩
      by_cases e : j < 6 * S
      · omega
      · omega
  obtain ⟨t, a1, J', rfl, a2⟩ := this
  exact ⟨J', a1, a2⟩
theorem bK_fillsWalks (K : bK q 66 I L A T sM) (hl : ph_R q 64 2 = some 66) {H : Nat → Nat} (hH : wkP (lA A 1 3) (a_far A) H (2 ^ lA A 1 3) 0) : ∃ I', fX0_fillsWalks 64 (hw q I L) = some ((), hw q I' L) ∧ (∀ a, a ≠ 133 → I' a = I a) ∧ hrX I' (lA A 1 3) H (6 * 2 ^ lA A 1 3) := by
  obtain ⟨X, G, R, hT, hsM, W, h24, -⟩ := id K
  have w3 := W.1.2.2.2.1
  have hp : 2 ^ lA A 1 3 ≤ 2 ^ 6 := Nat.pow_le_pow_right (by decide) w3
  have ef := nJ_shl (k := lA A 1 3) (by omega)
  rw [nL 1] at ef
  have : ∃ t, fX0_fillsWalks_L10 64 (nI (lA A 1 3)) (nI 0) (hw q I L) = some t ∧ ∃ J', t = ((), hw q J' L) ∧ (∀ a, a ≠ 133 → J' a = I a) ∧ hrX J' (lA A 1 3) H (6 * 2 ^ lA A 1 3) := by
    unfold fX0_fillsWalks_L10
    refine whl_st (α := iF) (fun S U => (nI S, hw q U L)) (fun S U => (∀ a, a ≠ 133 → U a = I a) ∧ hrX U (lA A 1 3) H (6 * S)) (2 ^ lA A 1 3) (a := I) rfl ⟨fun _ _ => rfl, fun j hj => by omega⟩ ?_ ?_
    · rintro S U hS ⟨f1, f2⟩
      obtain ⟨U', a1, a2, a3⟩ := bK_wk19 (L := L) K hl hH hS f1 f2
      exact ⟨U', by simp (disch := omega) only [fX0_fillsWalks_L10_b, nL, nI_add, nJ_mul, nJ_div, nJ_mod, nI_leI, nI_ltI, nI_eq, Option.bind_some, Option.bind_none, Nat.one_ne_zero, Nat.zero_ne_one, Nat.zero_add, Nat.add_zero, if_true, if_false, not_true_eq_false, not_false_eq_true, ef, show ¬ 2 ^ lA A 1 3 ≤ S by omega, a1], a2, a3⟩
    · rintro U ⟨f1, f2⟩
      exact ⟨_, by simp (disch := omega) only [fX0_fillsWalks_L10_b, nL, nI_add, nJ_mul, nJ_div, nJ_mod, nI_leI, nI_ltI, nI_eq, Option.bind_some, Option.bind_none, Nat.one_ne_zero, Nat.zero_ne_one, Nat.zero_add, Nat.add_zero, if_true, if_false, not_true_eq_false, not_false_eq_true, ef, Nat.le_refl, xr_s] <;> rfl, U, rfl, f1, f2⟩
  obtain ⟨t, a1, J', rfl, a2⟩ := this
  exact ⟨J', by simp (disch := omega) only [fX0_fillsWalks, nL, nI_add, nJ_mul, nJ_div, nJ_mod, nI_leI, nI_ltI, nI_eq, Option.bind_some, Option.bind_none, Nat.one_ne_zero, Nat.zero_ne_one, Nat.zero_add, Nat.add_zero, if_true, if_false, not_true_eq_false, not_false_eq_true, gx2 X hl, gl_I G, R.f3, a1], a2⟩
theorem kE_hoursOf (K : mK q I A T sM) (hD : ∀ j, j < 36 → I 178 j = nI (a_far A j)) {H : Nat → Nat} (hH : ∀ j, j < 384 → I 186 j = nI (H j)) (hHB : ∀ j, H j ≤ 100000) {S : Nat} (hS : S < 2 ^ lA A 1 3) : fX3_hoursOf 136 (nI S) (hw q I L) = some (nI (hoF A H S), hw q I L) := by
  obtain ⟨M, R, hT, hsM, W, h24⟩ := id K
  have w3 := W.1.2.2.2.1
  have hp : 2 ^ lA A 1 3 ≤ 2 ^ 6 := Nat.pow_le_pow_right (by decide) w3
  have hB := fun j => (show a_far A j ≤ 100000 by have := (far_ok W).1 j; omega)
  have lp : ∀ x0, x0 ≤ 100000 → fX3_hoursOf_L14 136 (nI S) (nI x0) (nI 0) (hw q I L) = some (nI (fo_ (fun k x => min (if S.testBit k then H (6 * S + k) + a_far A (6 * k) else 100000) x) x0 (lA A 1 3)), hw q I L) := fun x0 hx0 => by
    unfold fX3_hoursOf_L14
    refine whl_for (fun k => (nI (fo_ (fun k x => min (if S.testBit k then H (6 * S + k) + a_far A (6 * k) else 100000) x) x0 k), nI k, hw q I L)) (lA A 1 3) rfl (fun k hk => ?_) ?_
    · have hle := fo_ind (f := fun k x => min (if S.testBit k then H (6 * S + k) + a_far A (6 * k) else 100000) x) (P := fun x => x ≤ 100000) hx0 k (fun i x _ hx => by omega)
      rw [show fo_ (fun k x => min (if S.testBit k then H (6 * S + k) + a_far A (6 * k) else 100000) x) x0 (k + 1) = min (if S.testBit k then H (6 * S + k) + a_far A (6 * k) else 100000) (fo_ (fun k x => min (if S.testBit k then H (6 * S + k) + a_far A (6 * k) else 100000) x) x0 k) from rfl]
      generalize fo_ (fun k x => min (if S.testBit k then H (6 * S + k) + a_far A (6 * k) else 100000) x) x0 k = x at hle
      have eW := mE_wayOf (I := I) (L := L) M (a := k) (b := 0) (by omega) (by omega) hD hB
      rw [Nat.add_zero] at eW
      have e6 := hH (6 * S + k) (by omega)
      have b1 := hHB (6 * S + k)
      have b2 := hB (6 * k)
      cases c : S.testBit k
      · rw [if_neg (by decide), Nat.min_eq_right hle]
        simp (disch := omega) only [fX3_hoursOf_L14_b, fX3_hoursOf_L56, fX3_hoursOf_L70, nL, nI_add, nJ_mul, nJ_div, nJ_mod, nI_leI, nI_ltI, nI_eq, Option.bind_some, Option.bind_none, Nat.one_ne_zero, Nat.zero_ne_one, Nat.zero_add, Nat.add_zero, if_true, if_false, not_true_eq_false, not_false_eq_true, gm1 M, xm137 M, rm1 R, show ¬ lA A 1 3 ≤ k by omega, mE_hasN, c, Bool.false_eq_true, hle]
      · rw [if_pos rfl]
        by_cases cc : x ≤ H (6 * S + k) + a_far A (6 * k)
        · rw [Nat.min_eq_right cc]
          simp (disch := omega) only [fX3_hoursOf_L14_b, fX3_hoursOf_L56, fX3_hoursOf_L70, nL, nI_add, nJ_mul, nJ_div, nJ_mod, nI_leI, nI_ltI, nI_eq, Option.bind_some, Option.bind_none, Nat.one_ne_zero, Nat.zero_ne_one, Nat.zero_add, Nat.add_zero, if_true, if_false, not_true_eq_false, not_false_eq_true, gm1 M, xm137 M, rm1 R, show ¬ lA A 1 3 ≤ k by omega, mE_hasN, c, gm69 M, xm186 M, e6, dm M, eW, cc]
        · rw [Nat.min_eq_left (by omega)]
          simp (disch := omega) only [fX3_hoursOf_L14_b, fX3_hoursOf_L56, fX3_hoursOf_L70, nL, nI_add, nJ_mul, nJ_div, nJ_mod, nI_leI, nI_ltI, nI_eq, Option.bind_some, Option.bind_none, Nat.one_ne_zero, Nat.zero_ne_one, Nat.zero_add, Nat.add_zero, if_true, if_false, not_true_eq_false, not_false_eq_true, gm1 M, xm137 M, rm1 R, show ¬ lA A 1 3 ≤ k by omega, mE_hasN, c, gm69 M, xm186 M, e6, dm M, eW, cc]
    · simp (disch := omega) only [fX3_hoursOf_L14_b, nL, nI_add, nJ_mul, nJ_div, nJ_mod, nI_leI, nI_ltI, nI_eq, Option.bind_some, Option.bind_none, Nat.one_ne_zero, Nat.zero_ne_one, Nat.zero_add, Nat.add_zero, if_true, if_false, not_true_eq_false, not_false_eq_true, gm1 M, xm137 M, rm1 R, Nat.le_refl, xr_s]
  unfold hoF
  by_cases z : S = 0
  · subst z
    have := lp 0 (by omega)
    simp (disch := omega) only [fX3_hoursOf, fX3_hoursOf_L11, nL, nI_add, nJ_mul, nJ_div, nJ_mod, nI_leI, nI_ltI, nI_eq, Option.bind_some, Option.bind_none, Nat.one_ne_zero, Nat.zero_ne_one, Nat.zero_add, Nat.add_zero, if_true, if_false, not_true_eq_false, not_false_eq_true, this]
  · have := lp 100000 (by omega)
    simp (disch := omega) only [fX3_hoursOf, fX3_hoursOf_L11, nL, nI_add, nJ_mul, nJ_div, nJ_mod, nI_leI, nI_ltI, nI_eq, Option.bind_some, Option.bind_none, Nat.one_ne_zero, Nat.zero_ne_one, Nat.zero_add, Nat.add_zero, if_true, if_false, not_true_eq_false, not_false_eq_true, z, this]
theorem bK_walkOf (K : bK q 66 I L A T sM) (hl : ph_R q 64 2 = some 66) {H : Nat → Nat} (hHB : ∀ j, H j ≤ 100000) (hH : hrX I (lA A 1 3) H (6 * 2 ^ lA A 1 3)) {S : Nat} (hS : S < 2 ^ lA A 1 3) : fX0_walkOf 64 (nI S) (hw q I L) = some (nI (min (hoF A H S) 9999), hw q I L) := by
  obtain ⟨X, G, R, hT, hsM, W, h24, -⟩ := id K
  have w3 := W.1.2.2.2.1
  have hp : 2 ^ lA A 1 3 ≤ 2 ^ 6 := Nat.pow_le_pow_right (by decide) w3
  have hB := fun j => (show a_far A j ≤ 100000 by have := (far_ok W).1 j; omega)
  have lp : ∀ x0 y0, x0 ≤ 100000 → y0 = min x0 9999 → fX0_walkOf_L14 64 (nI S) (nI y0) (nI 0) (hw q I L) = some (nI (min (fo_ (fun k x => min (if S.testBit k then H (6 * S + k) + a_far A (6 * k) else 100000) x) x0 (lA A 1 3)) 9999), hw q I L) := fun x0 y0 hx0 hy0 => by
    unfold fX0_walkOf_L14
    refine whl_for (fun k => (nI (min (fo_ (fun k x => min (if S.testBit k then H (6 * S + k) + a_far A (6 * k) else 100000) x) x0 k) 9999), nI k, hw q I L)) (lA A 1 3) (by rw [hy0]; rfl) (fun k hk => ?_) ?_
    · have hle := fo_ind (f := fun k x => min (if S.testBit k then H (6 * S + k) + a_far A (6 * k) else 100000) x) (P := fun x => x ≤ 100000) hx0 k (fun i x _ hx => by omega)
      rw [show fo_ (fun k x => min (if S.testBit k then H (6 * S + k) + a_far A (6 * k) else 100000) x) x0 (k + 1) = min (if S.testBit k then H (6 * S + k) + a_far A (6 * k) else 100000) (fo_ (fun k x => min (if S.testBit k then H (6 * S + k) + a_far A (6 * k) else 100000) x) x0 k) from rfl]
      generalize fo_ (fun k x => min (if S.testBit k then H (6 * S + k) + a_far A (6 * k) else 100000) x) x0 k = x at hle
      have e73 := rl7 R (b := 0) hk (by omega)
      rw [Nat.add_zero] at e73
      have eR := hH (6 * S + k) (by omega) (by omega)
      cases c : S.testBit k
      · rw [if_neg (by decide), Nat.min_eq_right hle]
        simp (disch := omega) only [fX0_walkOf_L14_b, fX0_walkOf_L62, nL, nI_add, nJ_mul, nJ_div, nJ_mod, nI_leI, nI_ltI, nI_eq, Option.bind_some, Option.bind_none, Nat.one_ne_zero, Nat.zero_ne_one, Nat.zero_add, Nat.add_zero, if_true, if_false, not_true_eq_false, not_false_eq_true, gx2 X hl, gl_I G, R.f3, show ¬ lA A 1 3 ≤ k by omega, bE_hasN, c, Bool.false_eq_true]
      · rw [if_pos rfl]
        have em : mn_ (nI (min x 9999)) (nI (min (H (6 * S + k)) 9999) + nI (min (a_far A (6 * k)) 9999)) = nI (min (min (H (6 * S + k) + a_far A (6 * k)) x) 9999) := by
          rw [← cp_min, nI_add]
          have hy : min (H (6 * S + k)) 9999 + min (a_far A (6 * k)) 9999 ≤ 19998 := by omega
          have hx9 : min x 9999 ≤ 9999 := by omega
          generalize min (H (6 * S + k)) 9999 + min (a_far A (6 * k)) 9999 = y at hy
          generalize min x 9999 = x9 at hx9
          by_cases cc : y < x9
          · rw [Nat.min_eq_right (by omega)]
            simp (disch := omega) only [mn_, nL, nI_add, nJ_mul, nJ_div, nJ_mod, nI_leI, nI_ltI, nI_eq, Option.bind_some, Option.bind_none, Nat.one_ne_zero, Nat.zero_ne_one, Nat.zero_add, Nat.add_zero, if_true, if_false, not_true_eq_false, not_false_eq_true, cc]
          · rw [Nat.min_eq_left (by omega)]
            simp (disch := omega) only [mn_, nL, nI_add, nJ_mul, nJ_div, nJ_mod, nI_leI, nI_ltI, nI_eq, Option.bind_some, Option.bind_none, Nat.one_ne_zero, Nat.zero_ne_one, Nat.zero_add, Nat.add_zero, if_true, if_false, not_true_eq_false, not_false_eq_true, cc]
        simp (disch := omega) only [fX0_walkOf_L14_b, fX0_walkOf_L62, nm_, nL, nI_add, nJ_mul, nJ_div, nJ_mod, nI_leI, nI_ltI, nI_eq, Option.bind_some, Option.bind_none, Nat.one_ne_zero, Nat.zero_ne_one, Nat.zero_add, Nat.add_zero, if_true, if_false, not_true_eq_false, not_false_eq_true, gx2 X hl, gl_I G, R.f3, show ¬ lA A 1 3 ≤ k by omega, bE_hasN, c, gx23 X, xx133 X, eR, gl15 G, xl15 G, e73, ← em]
    · simp (disch := omega) only [fX0_walkOf_L14_b, nL, nI_add, nJ_mul, nJ_div, nJ_mod, nI_leI, nI_ltI, nI_eq, Option.bind_some, Option.bind_none, Nat.one_ne_zero, Nat.zero_ne_one, Nat.zero_add, Nat.add_zero, if_true, if_false, not_true_eq_false, not_false_eq_true, gx2 X hl, gl_I G, R.f3, Nat.le_refl, xr_s]
  unfold hoF
  by_cases z : S = 0
  · subst z
    have := lp 0 0 (by omega) rfl
    simp (disch := omega) only [fX0_walkOf, fX0_walkOf_L11, nL, nI_add, nJ_mul, nJ_div, nJ_mod, nI_leI, nI_ltI, nI_eq, Option.bind_some, Option.bind_none, Nat.one_ne_zero, Nat.zero_ne_one, Nat.zero_add, Nat.add_zero, if_true, if_false, not_true_eq_false, not_false_eq_true, this]
  · have := lp 100000 9999 (by omega) rfl
    simp (disch := omega) only [fX0_walkOf, fX0_walkOf_L11, nL, nI_add, nJ_mul, nJ_div, nJ_mod, nI_leI, nI_ltI, nI_eq, Option.bind_some, Option.bind_none, Nat.one_ne_zero, Nat.zero_ne_one, Nat.zero_add, Nat.add_zero, if_true, if_false, not_true_eq_false, not_false_eq_true, z, this]
end JJ2
