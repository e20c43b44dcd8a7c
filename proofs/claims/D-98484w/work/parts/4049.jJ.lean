/-! P2 JJ: walks: the hours by sets of places -/
def clr (S l : Nat) : Nat := if S.testBit l then S ^^^ 2 ^ l else S
theorem clr_I : ∀ S, S < 64 → ∀ l, l < 6 → nI S &&& (nI (2 ^ l) ^^^ (-(nI 1))) = nI (clr S l) ∧ clr S l ≤ S ∧ (S.testBit l = true → clr S l < S) ∧ (S.testBit l = true → (clr S l = 0 ↔ S = 2 ^ l)) := by decide +kernel
def wkL (n : Nat) (D H : Nat → Nat) (S l : Nat) : Nat := if S.testBit l then fo_ (fun k x => min (H (6 * clr S l + k) + D (6 * k + l)) x) (if S = 2 ^ l then D l else 100000) n else 100000
/-- the hours are laid, up to a set and a place of it -/
def wkP (n : Nat) (D H : Nat → Nat) (S l : Nat) : Prop := (∀ j, H j ≤ 100000) ∧ (∀ k, k < n → H k = 100000) ∧ ∀ T k, 1 ≤ T → k < n → (T < S ∨ (T = S ∧ k < l)) → H (6 * T + k) = wkL n D H T k
theorem wkL_le {n : Nat} {D H : Nat → Nat} {S l : Nat} (hD : ∀ j, D j ≤ 100000) : wkL n D H S l ≤ 100000 := by
  unfold wkL
  split
  · refine fo_ind (P := fun x => x ≤ 100000) ?_ n (fun k x _ hx => by omega)
    split
    · exact hD l
    · exact Nat.le_refl _
  · exact Nat.le_refl _
theorem fo_cg {α : Type} {f f' : Nat → α → α} {a a' : α} (ha : a = a') : ∀ n, (∀ i x, i < n → f i x = f' i x) → fo_ f a n = fo_ f' a' n
  | 0, _ => ha
  | n + 1, h => by
    show f n _ = f' n _
    rw [fo_cg ha n (fun i x hi => h i x (by omega)), h n _ (by omega)]
theorem wkP_up {n : Nat} {D H : Nat → Nat} {S l : Nat} (hD : ∀ j, D j ≤ 100000) (hn : n ≤ 6) (hS : S < 64) (hS1 : 1 ≤ S) (hl : l < n) (h : wkP n D H S l) : wkP n D (upN H (6 * S + l) (wkL n D H S l)) S (l + 1) := by
  obtain ⟨h1, h2, h3⟩ := h
  have hw := wkL_le (n := n) (H := H) (S := S) (l := l) hD
  -- what a set's hours stand on isn't written
  have same : ∀ T k, T ≤ S → k < n → wkL n D (upN H (6 * S + l) (wkL n D H S l)) T k = wkL n D H T k := fun T k hT hk => by
    unfold wkL
    by_cases c : T.testBit k = true
    · rw [if_pos c, if_pos c]
      have hc := (clr_I T (by omega) k (by omega)).2.2.1 c
      refine fo_cg rfl n (fun i x hi => ?_)
      have : upN H (6 * S + l) (if S.testBit l = true then fo_ (fun k x => min (H (6 * clr S l + k) + D (6 * k + l)) x) (if S = 2 ^ l then D l else 100000) n else 100000) (6 * clr T k + i) = H (6 * clr T k + i) := if_neg (by omega)
      rw [this]
    · rw [if_neg c, if_neg c]
  refine ⟨fun j => ?_, fun k hk => ?_, fun T k hT hk hc => ?_⟩
  · unfold upN
    split
    · exact hw
    · exact h1 j
  · unfold upN
    rw [if_neg (by omega)]
    exact h2 k hk
  · rw [same T k (by omega) hk]
    unfold upN
    by_cases e : 6 * T + k = 6 * S + l
    · have : T = S := by omega
      have : k = l := by omega
      subst T k
      rw [if_pos rfl]
    · rw [if_neg e]
      exact h3 T k hT hk (by omega)
section JJ
variable {q : ph_t} {I : iF} {L : lF_} {A : ld_t} {T : Nat → Nat → Bool} {sM : Nat}
theorem kE_wk87 (K : mK q I A T sM) {J : iF} (hJ : ∀ c, c ≠ 178 → c ≠ 186 → J c = I c) (hD : ∀ j, j < 36 → J 178 j = nI (a_far A j)) (hB : ∀ j, a_far A j ≤ 100000) {H : Nat → Nat} (hH : ∀ j, j < 384 → J 186 j = nI (H j)) (hHB : ∀ j, H j ≤ 100000) {S l x0 : Nat} (hS : S < 64) (hl : l < lA A 1 3) (hx : x0 = if S.testBit l then (if S = 2 ^ l then a_far A l else 100000) else 100000) : fX3_laysWalks_L87 136 (nI S) (nI l) (nI x0) (nI 0) (hw q J L) = some (.inl (nI (l + 1), hw q (ph_u J 186 (6 * S + l) (nI (wkL (lA A 1 3) (a_far A) H S l))) L)) := by
  obtain ⟨M, R, hT, hsM, W, h24⟩ := id K
  have w3 := W.1.2.2.2.1
  have r3 : J 137 3 = nI (lA A 1 3) := by rw [hJ 137 (by decide) (by decide)]; exact rm1 R (by decide)
  obtain ⟨c1, c2, c3, c4⟩ := clr_I S hS l (by omega)
  have ef := nJ_shl (k := l) (by omega)
  rw [nL 1] at ef
  have hx0 : x0 ≤ 100000 := by
    have := hB l
    rw [hx]
    split
    · split <;> omega
    · omega
  have e153 : ∀ x, fX3_laysWalks_L153 136 (nI S) (nI l) (nI x) (hw q J L) = some (.inl (nI (l + 1), hw q (ph_u J 186 (6 * S + l) (nI x)) L)) := fun x => by
    simp (disch := omega) only [fX3_laysWalks_L153, nL, nI_add, nJ_mul, nJ_div, nJ_mod, nI_leI, nI_ltI, nI_eq, Option.bind_some, Option.bind_none, Nat.one_ne_zero, Nat.zero_ne_one, Nat.zero_add, Nat.add_zero, if_true, if_false, not_true_eq_false, not_false_eq_true, gm69 M, ym186 M]
  unfold fX3_laysWalks_L87 wkL
  cases c : S.testBit l
  · rw [whl_eq]
    rw [c] at hx
    simp only [Bool.false_eq_true, if_false] at hx ⊢
    subst hx
    simp (disch := omega) only [fX3_laysWalks_L87_b, nL, nI_add, nJ_mul, nJ_div, nJ_mod, nI_leI, nI_ltI, nI_eq, Option.bind_some, Option.bind_none, Nat.one_ne_zero, Nat.zero_ne_one, Nat.zero_add, Nat.add_zero, if_true, if_false, not_true_eq_false, not_false_eq_true, gm1 M, xm137 M, r3, show ¬ lA A 1 3 ≤ 0 by omega, mE_hasN, c, Bool.false_eq_true, e153, xr_s]
  · rw [c] at hx
    simp only [if_true] at hx ⊢
    rw [← hx]
    refine whl_for (fun k => (nI (fo_ (fun k x => min (H (6 * clr S l + k) + a_far A (6 * k + l)) x) x0 k), nI k, hw q J L)) (lA A 1 3) rfl (fun k hk => ?_) ?_
    · have hle := fo_ind (f := fun k x => min (H (6 * clr S l + k) + a_far A (6 * k + l)) x) (P := fun x => x ≤ 100000) hx0 k (fun i x _ hx => by omega)
      rw [show fo_ (fun k x => min (H (6 * clr S l + k) + a_far A (6 * k + l)) x) x0 (k + 1) = min (H (6 * clr S l + k) + a_far A (6 * k + l)) (fo_ (fun k x => min (H (6 * clr S l + k) + a_far A (6 * k + l)) x) x0 k) from rfl]
      generalize fo_ (fun k x => min (H (6 * clr S l + k) + a_far A (6 * k + l)) x) x0 k = x at hle
      have eW := mE_wayOf (I := J) (L := L) M (a := k) (b := l) (by omega) (by omega) hD hB
      have e6 := hH (6 * clr S l + k) (by omega)
      have b1 := hHB (6 * clr S l + k)
      have b2 := hB (6 * k + l)
      by_cases cc : x ≤ H (6 * clr S l + k) + a_far A (6 * k + l)
      · rw [Nat.min_eq_right cc]
        simp (disch := omega) only [fX3_laysWalks_L87_b, fX3_laysWalks_L146, nm_, nL, nI_add, nJ_mul, nJ_div, nJ_mod, nI_leI, nI_ltI, nI_eq, Option.bind_some, Option.bind_none, Nat.one_ne_zero, Nat.zero_ne_one, Nat.zero_add, Nat.add_zero, if_true, if_false, not_true_eq_false, not_false_eq_true, gm1 M, xm137 M, r3, show ¬ lA A 1 3 ≤ k by omega, mE_hasN, c, gm69 M, xm186 M, ef, c1, e6, dm M, eW, cc]
      · rw [Nat.min_eq_left (by omega)]
        simp (disch := omega) only [fX3_laysWalks_L87_b, fX3_laysWalks_L146, nm_, nL, nI_add, nJ_mul, nJ_div, nJ_mod, nI_leI, nI_ltI, nI_eq, Option.bind_some, Option.bind_none, Nat.one_ne_zero, Nat.zero_ne_one, Nat.zero_add, Nat.add_zero, if_true, if_false, not_true_eq_false, not_false_eq_true, gm1 M, xm137 M, r3, show ¬ lA A 1 3 ≤ k by omega, mE_hasN, c, gm69 M, xm186 M, ef, c1, e6, dm M, eW, cc]
    · simp (disch := omega) only [fX3_laysWalks_L87_b, nL, nI_add, nJ_mul, nJ_div, nJ_mod, nI_leI, nI_ltI, nI_eq, Option.bind_some, Option.bind_none, Nat.one_ne_zero, Nat.zero_ne_one, Nat.zero_add, Nat.add_zero, if_true, if_false, not_true_eq_false, not_false_eq_true, gm1 M, xm137 M, r3, Nat.le_refl, e153, xr_s]
/-- the hours that the model laid -/
def hrW (I J : iF) (A : ld_t) (H : Nat → Nat) : Prop := (∀ c, c ≠ 178 → c ≠ 186 → J c = I c) ∧ (∀ j, j < 36 → J 178 j = nI (a_far A j)) ∧ ∀ j, j < 384 → J 186 j = nI (H j)
theorem kE_wk46 (K : mK q I A T sM) (hB : ∀ j, a_far A j ≤ 100000) {J : iF} {H : Nat → Nat} {S : Nat} (hS : S < 64) (hS1 : 1 ≤ S) (h : hrW I J A H) (hp : wkP (lA A 1 3) (a_far A) H S 0) : ∃ J' H', fX3_laysWalks_L46 136 (nI S) (nI 0) (hw q J L) = some (.inl (nI (S + 1), hw q J' L)) ∧ hrW I J' A H' ∧ wkP (lA A 1 3) (a_far A) H' (S + 1) 0 := by
  obtain ⟨M, R, hT, hsM, W, h24⟩ := id K
  have w3 := W.1.2.2.2.1
  have : ∃ t, fX3_laysWalks_L46 136 (nI S) (nI 0) (hw q J L) = some t ∧ ∃ J' H', t = .inl (nI (S + 1), hw q J' L) ∧ hrW I J' A H' ∧ wkP (lA A 1 3) (a_far A) H' (S + 1) 0 := by
    unfold fX3_laysWalks_L46
    refine whl_st (α := iF × (Nat → Nat)) (fun l z => (nI l, hw q z.1 L)) (fun l z => hrW I z.1 A z.2 ∧ wkP (lA A 1 3) (a_far A) z.2 S l) (lA A 1 3) (a := (J, H)) rfl ⟨h, hp⟩ ?_ ?_
    · rintro l ⟨U, G⟩ hl ⟨⟨f1, f2, f3⟩, f4⟩
      dsimp only at f1 f2 f3 f4 ⊢
      have r3 : U 137 3 = nI (lA A 1 3) := by rw [f1 137 (by decide) (by decide)]; exact rm1 R (by decide)
      have e := fun x0 hx => kE_wk87 (L := L) K f1 f2 hB f3 f4.1 (S := S) (l := l) (x0 := x0) hS hl hx
      have ef := nJ_shl (k := l) (by omega)
      rw [nL 1] at ef
      have hp : 2 ^ l ≤ 2 ^ 6 := Nat.pow_le_pow_right (by decide) (by omega)
      have eW := mE_wayOf (I := U) (L := L) M (a := 0) (b := l) (by omega) (by omega) f2 hB
      rw [Nat.mul_zero, Nat.zero_add] at eW
      have hwl := wkL_le (n := lA A 1 3) (H := G) (S := S) (l := l) hB
      refine ⟨(ph_u U 186 (6 * S + l) (nI (wkL (lA A 1 3) (a_far A) G S l)), upN G (6 * S + l) (wkL (lA A 1 3) (a_far A) G S l)), ?_, ⟨fun c c1 c2 => by dsimp only; rw [pu_ne c2]; exact f1 c c1 c2, fun j hj => by dsimp only; rw [pu_ne (by decide)]; exact f2 j hj, fun j hj => ?_⟩, wkP_up hB w3 hS hS1 hl f4⟩
      · cases c : S.testBit l
        · have e := e 100000 (by rw [c]; rfl)
          simp (disch := omega) only [fX3_laysWalks_L46_b, fX3_laysWalks_L80, fX3_laysWalks_L83, nL, nI_add, nJ_mul, nJ_div, nJ_mod, nI_leI, nI_ltI, nI_eq, Option.bind_some, Option.bind_none, Nat.one_ne_zero, Nat.zero_ne_one, Nat.zero_add, Nat.add_zero, if_true, if_false, not_true_eq_false, not_false_eq_true, gm1 M, xm137 M, r3, show ¬ lA A 1 3 ≤ l by omega, mE_hasN, c, Bool.false_eq_true, e]
        · by_cases c2 : S = 2 ^ l
          · have e := e (a_far A l) (by rw [c, if_pos rfl, if_pos c2])
            rw [← c2] at ef
            simp (disch := omega) only [fX3_laysWalks_L46_b, fX3_laysWalks_L80, fX3_laysWalks_L83, nL, nI_add, nJ_mul, nJ_div, nJ_mod, nI_leI, nI_ltI, nI_eq, Option.bind_some, Option.bind_none, Nat.one_ne_zero, Nat.zero_ne_one, Nat.zero_add, Nat.add_zero, if_true, if_false, not_true_eq_false, not_false_eq_true, gm1 M, xm137 M, r3, show ¬ lA A 1 3 ≤ l by omega, mE_hasN, c, ef, dm M, eW, e]
          · have e := e 100000 (by rw [c, if_pos rfl, if_neg c2])
            simp (disch := omega) only [fX3_laysWalks_L46_b, fX3_laysWalks_L80, fX3_laysWalks_L83, nL, nI_add, nJ_mul, nJ_div, nJ_mod, nI_leI, nI_ltI, nI_eq, Option.bind_some, Option.bind_none, Nat.one_ne_zero, Nat.zero_ne_one, Nat.zero_add, Nat.add_zero, if_true, if_false, not_true_eq_false, not_false_eq_true, gm1 M, xm137 M, r3, show ¬ lA A 1 3 ≤ l by omega, mE_hasN, c, ef, c2, e]
      · dsimp only
        rw [pu_at]
        unfold upN
        split
        · rfl
        · exact f3 j hj
    · rintro ⟨U, G⟩ ⟨⟨f1, f2, f3⟩, f4⟩
      dsimp only at f1 f2 f3 f4 ⊢
      have r3 : U 137 3 = nI (lA A 1 3) := by rw [f1 137 (by decide) (by decide)]; exact rm1 R (by decide)
      exact ⟨_, by simp (disch := omega) only [fX3_laysWalks_L46_b, nL, nI_add, nJ_mul, nJ_div, nJ_mod, nI_leI, nI_ltI, nI_eq, Option.bind_some, Option.bind_none, Nat.one_ne_zero, Nat.zero_ne_one, Nat.zero_add, Nat.add_zero, if_true, if_false, not_true_eq_false, not_false_eq_true, gm1 M, xm137 M, r3, Nat.le_refl, xr_s] <;> rfl, U, G, rfl, ⟨f1, f2, f3⟩, f4.1, f4.2.1, fun T k h1 h2 h3 => f4.2.2 T k h1 h2 (by omega)⟩
  obtain ⟨t, h1, J', H', rfl, h2⟩ := this
  exact ⟨J', H', h1, h2⟩
theorem kE_laysWalks (K : mK q I A T sM) : ∃ I' H, fX3_laysWalks 136 (hw q I L) = some ((), hw q I' L) ∧ hrW I I' A H ∧ wkP (lA A 1 3) (a_far A) H (2 ^ lA A 1 3) 0 := by
  obtain ⟨M, R, hT, hsM, W, h24⟩ := id K
  have w3 := W.1.2.2.2.1
  have hp : 2 ^ lA A 1 3 ≤ 2 ^ 6 := Nat.pow_le_pow_right (by decide) w3
  have hp1 : 1 ≤ 2 ^ lA A 1 3 := Nat.pos_of_ne_zero (by simp)
  have ef := nJ_shl (k := lA A 1 3) (by omega)
  rw [nL 1] at ef
  obtain ⟨I1, e1, f1, f2, f3⟩ := kE_laysWays (L := L) K
  have lp32 : ∀ J : iF, hrW I J A (fun _ => 100000) → ∃ t, fX3_laysWalks_L32 136 (nI 1) (hw q J L) = some t ∧ ∃ J' H, t = ((), hw q J' L) ∧ hrW I J' A H ∧ wkP (lA A 1 3) (a_far A) H (2 ^ lA A 1 3) 0 := fun J hJ => by
    unfold fX3_laysWalks_L32
    refine whl_st (α := iF × (Nat → Nat)) (fun i z => (nI (i + 1), hw q z.1 L)) (fun i z => hrW I z.1 A z.2 ∧ wkP (lA A 1 3) (a_far A) z.2 (i + 1) 0) (2 ^ lA A 1 3 - 1) (a := (J, fun _ => 100000)) rfl ⟨hJ, fun _ => Nat.le_refl _, fun _ _ => rfl, fun T k h1 h2 h3 => by omega⟩ ?_ ?_
    · rintro i ⟨U, G⟩ hi ⟨g1, g2⟩
      dsimp only at g1 g2 ⊢
      have r3 : U 137 3 = nI (lA A 1 3) := by rw [g1.1 137 (by decide) (by decide)]; exact rm1 R (by decide)
      obtain ⟨J', H', a1, a2, a3⟩ := kE_wk46 (L := L) K f3 (S := i + 1) (by omega) (by omega) g1 g2
      exact ⟨(J', H'), by simp (disch := omega) only [fX3_laysWalks_L32_b, nL, nI_add, nJ_mul, nJ_div, nJ_mod, nI_leI, nI_ltI, nI_eq, Option.bind_some, Option.bind_none, Nat.one_ne_zero, Nat.zero_ne_one, Nat.zero_add, Nat.add_zero, if_true, if_false, not_true_eq_false, not_false_eq_true, gm1 M, xm137 M, r3, ef, show ¬ 2 ^ lA A 1 3 ≤ i + 1 by omega, a1], a2, a3⟩
    · rintro ⟨U, G⟩ ⟨g1, g2⟩
      dsimp only at g1 g2 ⊢
      have r3 : U 137 3 = nI (lA A 1 3) := by rw [g1.1 137 (by decide) (by decide)]; exact rm1 R (by decide)
      rw [show 2 ^ lA A 1 3 - 1 + 1 = 2 ^ lA A 1 3 by omega] at g2 ⊢
      exact ⟨_, by simp (disch := omega) only [fX3_laysWalks_L32_b, nL, nI_add, nJ_mul, nJ_div, nJ_mod, nI_leI, nI_ltI, nI_eq, Option.bind_some, Option.bind_none, Nat.one_ne_zero, Nat.zero_ne_one, Nat.zero_add, Nat.add_zero, if_true, if_false, not_true_eq_false, not_false_eq_true, gm1 M, xm137 M, r3, ef, Nat.le_refl, xr_s] <;> rfl, U, G, rfl, g1, g2⟩
  have : ∃ t, fX3_laysWalks_L6 136 (nI 0) (hw q I1 L) = some t ∧ ∃ J' H, t = ((), hw q J' L) ∧ hrW I J' A H ∧ wkP (lA A 1 3) (a_far A) H (2 ^ lA A 1 3) 0 := by
    unfold fX3_laysWalks_L6
    refine whl_st (α := iF) (fun i J => (nI i, hw q J L)) (fun i J => (∀ c, c ≠ 186 → J c = I1 c) ∧ ∀ j, j < i → J 186 j = nI 100000) 384 (a := I1) rfl ⟨fun _ _ => rfl, fun j hj => by omega⟩ ?_ ?_
    · rintro i U hi ⟨g1, g2⟩
      refine ⟨ph_u U 186 i (nI 100000), by simp (disch := omega) only [fX3_laysWalks_L6_b, nL, nI_add, nJ_mul, nJ_div, nJ_mod, nI_leI, nI_ltI, nI_eq, Option.bind_some, Option.bind_none, Nat.one_ne_zero, Nat.zero_ne_one, Nat.zero_add, Nat.add_zero, if_true, if_false, not_true_eq_false, not_false_eq_true, gm69 M, nm186 M, show ¬ 384 ≤ i by omega, ym186 M], fun c hc => by rw [pu_ne hc]; exact g1 c hc, fun j hj => ?_⟩
      rw [pu_at]
      by_cases e : j = i
      · rw [if_pos e]
      · rw [if_neg e]; exact g2 j (by omega)
    · rintro U ⟨g1, g2⟩
      obtain ⟨t, a1, J', H, rfl, a2⟩ := lp32 U ⟨fun c c1 c2 => by rw [g1 c c2]; exact f1 c c1, fun j hj => by rw [g1 178 (by decide)]; exact f2 j hj, g2⟩
      exact ⟨_, by simp (disch := omega) only [fX3_laysWalks_L6_b, nL, nI_add, nJ_mul, nJ_div, nJ_mod, nI_leI, nI_ltI, nI_eq, Option.bind_some, Option.bind_none, Nat.one_ne_zero, Nat.zero_ne_one, Nat.zero_add, Nat.add_zero, if_true, if_false, not_true_eq_false, not_false_eq_true, gm69 M, nm186 M, Nat.le_refl, a1, xr_s] <;> rfl, J', H, rfl, a2⟩
  obtain ⟨t, a1, J', H, rfl, a2⟩ := this
  exact ⟨J', H, by simp (disch := omega) only [fX3_laysWalks, nL, nI_add, nJ_mul, nJ_div, nJ_mod, nI_leI, nI_ltI, nI_eq, Option.bind_some, Option.bind_none, Nat.one_ne_zero, Nat.zero_ne_one, Nat.zero_add, Nat.add_zero, if_true, if_false, not_true_eq_false, not_false_eq_true, dm M, e1, a1], a2⟩
-- TruthBridge's hours: no more than 9999
theorem cp_min {x y z : Nat} : min (min x 9999) (min y 9999 + min z 9999) = min (min (y + z) x) 9999 := by omega
theorem bK_wk86 (K : bK q 66 I L A T sM) (hl : ph_R q 64 2 = some 66) {H : Nat → Nat} (hH : wkP (lA A 1 3) (a_far A) H (2 ^ lA A 1 3) 0) {S l : Nat} (hS : S < 2 ^ lA A 1 3) (hl1 : l < lA A 1 3) (c : S.testBit l = true) {J : iF} (hJ : ∀ a, a ≠ 133 → J a = I a) (h1 : ∀ j, j < 6 * S + l → (j % 6 < lA A 1 3) → J 133 j = nI (min (H j) 9999)) (h2 : J 133 (6 * S + l) = nI (min (if S = 2 ^ l then a_far A l else 100000) 9999)) : ∃ J', fX0_fillsWalks_L86 64 (nI (lA A 1 3)) (nI S) (nI l) (nI (6 * S + l)) (nI (clr S l)) (nI 0) (hw q J L) = some (.inl (nI (l + 1), hw q J' L)) ∧ (∀ a, a ≠ 133 → J' a = I a) ∧ (∀ j, j ≠ 6 * S + l → J' 133 j = J 133 j) ∧ J' 133 (6 * S + l) = nI (min (H (6 * S + l)) 9999) := by
  obtain ⟨X, G, R, hT, hsM, W, h24, -⟩ := id K
  have w3 := W.1.2.2.2.1
  have hp : 2 ^ lA A 1 3 ≤ 2 ^ 6 := Nat.pow_le_pow_right (by decide) w3
  obtain ⟨c1, c2, c3, c4⟩ := clr_I S (by omega) l (by omega)
  have c3 := c3 c
  have hS1 : 1 ≤ S := by omega
  have hB := fun j => (show a_far A j ≤ 100000 by have := (far_ok W).1 j; omega)
  have eH : H (6 * S + l) = fo_ (fun k x => min (H (6 * clr S l + k) + a_far A (6 * k + l)) x) (if S = 2 ^ l then a_far A l else 100000) (lA A 1 3) := by
    rw [hH.2.2 S l hS1 hl1 (Or.inl hS)]
    unfold wkL
    rw [if_pos c]
  have hx0 : (if S = 2 ^ l then a_far A l else 100000) ≤ 100000 := by
    have := hB l
    split <;> omega
  have : ∃ t, fX0_fillsWalks_L86 64 (nI (lA A 1 3)) (nI S) (nI l) (nI (6 * S + l)) (nI (clr S l)) (nI 0) (hw q J L) = some t ∧ ∃ J', t = .inl (nI (l + 1), hw q J' L) ∧ (∀ a, a ≠ 133 → J' a = I a) ∧ (∀ j, j ≠ 6 * S + l → J' 133 j = J 133 j) ∧ J' 133 (6 * S + l) = nI (min (H (6 * S + l)) 9999) := by
    unfold fX0_fillsWalks_L86
    refine whl_st (α := iF) (fun k U => (nI k, hw q U L)) (fun k U => (∀ a, a ≠ 133 → U a = I a) ∧ (∀ j, j ≠ 6 * S + l → U 133 j = J 133 j) ∧ U 133 (6 * S + l) = nI (min (fo_ (fun k x => min (H (6 * clr S l + k) + a_far A (6 * k + l)) x) (if S = 2 ^ l then a_far A l else 100000) k) 9999)) (lA A 1 3) (a := J) rfl ⟨hJ, fun _ _ => rfl, h2⟩ ?_ ?_
    · rintro k U hk ⟨f1, f2, f3⟩
      have hle := fo_ind (f := fun k x => min (H (6 * clr S l + k) + a_far A (6 * k + l)) x) (P := fun x => x ≤ 100000) hx0 k (fun i x _ hx => by omega)
      rw [show fo_ (fun k x => min (H (6 * clr S l + k) + a_far A (6 * k + l)) x) (if S = 2 ^ l then a_far A l else 100000) (k + 1) = min (H (6 * clr S l + k) + a_far A (6 * k + l)) (fo_ (fun k x => min (H (6 * clr S l + k) + a_far A (6 * k + l)) x) (if S = 2 ^ l then a_far A l else 100000) k) from rfl]
      generalize fo_ (fun k x => min (H (6 * clr S l + k) + a_far A (6 * k + l)) x) (if S = 2 ^ l then a_far A l else 100000) k = x at hle f3
      have e73 : U 73 (6 * k + l) = nI (min (a_far A (6 * k + l)) 9999) := by rw [f1 73 (by decide)]; exact rl7 R hk hl1
      have eR : U 133 (6 * clr S l + k) = nI (min (H (6 * clr S l + k)) 9999) := by rw [f2 _ (by omega)]; exact h1 _ (by omega) (by omega)
      have hHk := hH.1 (6 * clr S l + k)
      cases ck : (clr S l).testBit k
      · -- not in the rest: no hours
        have hH1 : H (6 * clr S l + k) = 100000 := by
          by_cases z : clr S l = 0
          · rw [z]
            simp only [Nat.mul_zero, Nat.zero_add]
            exact hH.2.1 k hk
          · rw [hH.2.2 (clr S l) k (by omega) hk (Or.inl (by omega))]
            unfold wkL
            rw [if_neg (by rw [ck]; decide)]
        refine ⟨U, by simp (disch := omega) only [fX0_fillsWalks_L86_b, fX0_fillsWalks_L148, nL, nI_add, nJ_mul, nJ_div, nJ_mod, nI_leI, nI_ltI, nI_eq, Option.bind_some, Option.bind_none, Nat.one_ne_zero, Nat.zero_ne_one, Nat.zero_add, Nat.add_zero, if_true, if_false, not_true_eq_false, not_false_eq_true, show ¬ lA A 1 3 ≤ k by omega, bE_hasN, ck, Bool.false_eq_true], f1, f2, ?_⟩
        rw [f3, hH1]
        congr 1
        omega
      · have em : mn_ (nI (min x 9999)) (nI (min (H (6 * clr S l + k)) 9999) + nI (min (a_far A (6 * k + l)) 9999)) = nI (min (min (H (6 * clr S l + k) + a_far A (6 * k + l)) x) 9999) := by
          rw [← cp_min, nI_add]
          have hy : min (H (6 * clr S l + k)) 9999 + min (a_far A (6 * k + l)) 9999 ≤ 19998 := by omega
          have hx9 : min x 9999 ≤ 9999 := by omega
          generalize min (H (6 * clr S l + k)) 9999 + min (a_far A (6 * k + l)) 9999 = y at hy
          generalize min x 9999 = x9 at hx9
          by_cases cc : y < x9
          · rw [Nat.min_eq_right (by omega)]
            simp (disch := omega) only [mn_, nL, nI_add, nJ_mul, nJ_div, nJ_mod, nI_leI, nI_ltI, nI_eq, Option.bind_some, Option.bind_none, Nat.one_ne_zero, Nat.zero_ne_one, Nat.zero_add, Nat.add_zero, if_true, if_false, not_true_eq_false, not_false_eq_true, cc]
          · rw [Nat.min_eq_left (by omega)]
            simp (disch := omega) only [mn_, nL, nI_add, nJ_mul, nJ_div, nJ_mod, nI_leI, nI_ltI, nI_eq, Option.bind_some, Option.bind_none, Nat.one_ne_zero, Nat.zero_ne_one, Nat.zero_add, Nat.add_zero, if_true, if_false, not_true_eq_false, not_false_eq_true, cc]
        refine ⟨ph_u U 133 (6 * S + l) (nI (min (min (H (6 * clr S l + k) + a_far A (6 * k + l)) x) 9999)), by simp (disch := omega) only [fX0_fillsWalks_L86_b, fX0_fillsWalks_L148, nL, nI_add, nJ_mul, nJ_div, nJ_mod, nI_leI, nI_ltI, nI_eq, Option.bind_some, Option.bind_none, Nat.one_ne_zero, Nat.zero_ne_one, Nat.zero_add, Nat.add_zero, if_true, if_false, not_true_eq_false, not_false_eq_true, show ¬ lA A 1 3 ≤ k by omega, bE_hasN, ck, gx23 X, xx133 X, yx133 X, f3, eR, gx2 X hl, gl15 G, xl15 G, e73, ← em], fun a ha => by rw [pu_ne ha]; exact f1 a ha, fun j hj => by rw [pu_nk hj]; exact f2 j hj, pu_eq⟩
    · rintro U ⟨f1, f2, f3⟩
      rw [← eH] at f3
      exact ⟨_, by simp (disch := omega) only [fX0_fillsWalks_L86_b, fX0_fillsWalks_L154, nL, nI_add, nJ_mul, nJ_div, nJ_mod, nI_leI, nI_ltI, nI_eq, Option.bind_some, Option.bind_none, Nat.one_ne_zero, Nat.zero_ne_one, Nat.zero_add, Nat.add_zero, if_true, if_false, not_true_eq_false, not_false_eq_true, Nat.le_refl, xr_s] <;> rfl, U, rfl, f1, f2, f3⟩
  obtain ⟨t, a1, J', rfl, a2⟩ := this
  exact ⟨J', a1, a2⟩
end JJ
