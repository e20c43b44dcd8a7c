/-! P2 JK: both answer: bought -/
def coinS (A : ld_t) (S n : Nat) : Nat := fo_ (fun o x => x + if S.testBit o then lA A 4 o else 0) 0 n
def buyS (A : ld_t) (p S n : Nat) : ld_t := fo_ (fun o X => if S.testBit o then lHs X p (fun w => lH X p w && lH X o w) else X) A n
theorem coinS_s {A : ld_t} {S n : Nat} : coinS A S (n + 1) = coinS A S n + if S.testBit n then lA A 4 n else 0 := rfl
theorem coinS_le {A : ld_t} (W : lW A) {S : Nat} : ∀ n, n ≤ lA A 1 2 → coinS A S n ≤ 99 * n
  | 0, _ => Nat.le_refl _
  | n + 1, h => by
    have ih := coinS_le W (S := S) n (by omega)
    have := (W.2.1 n (by omega)).2.2.2.1
    rw [coinS_s]
    split <;> omega
theorem buyS_A {A : ld_t} {p S : Nat} (f i : Nat) : ∀ n, lA (buyS A p S n) f i = lA A f i
  | 0 => rfl
  | n + 1 => by
    refine Eq.trans ?_ (buyS_A (p := p) (S := S) f i n)
    show lA (if S.testBit n then lHs (buyS A p S n) p _ else buyS A p S n) f i = _
    split <;> rfl
theorem buyS_P {A : ld_t} {p S : Nat} : ∀ n, lP (buyS A p S n) = lP A
  | 0 => rfl
  | n + 1 => by
    refine Eq.trans ?_ (buyS_P (p := p) (S := S) n)
    show lP (if S.testBit n then lHs (buyS A p S n) p _ else buyS A p S n) = _
    split <;> rfl
theorem buyS_H {A : ld_t} {p S q : Nat} (h : q ≠ p) : ∀ n, lH (buyS A p S n) q = lH A q
  | 0 => rfl
  | n + 1 => by
    refine Eq.trans ?_ (buyS_H (A := A) (S := S) h n)
    show lH (if S.testBit n then lHs (buyS A p S n) p _ else buyS A p S n) q = _
    split
    · funext w
      exact if_neg h
    · rfl
theorem buyS_1 {A : ld_t} {p S n : Nat} (h : S.testBit n = true) : buyS A p S (n + 1) = lHs (buyS A p S n) p (fun w => lH (buyS A p S n) p w && lH (buyS A p S n) n w) := if_pos h
theorem buyS_0 {A : ld_t} {p S n : Nat} (h : S.testBit n = false) : buyS A p S (n + 1) = buyS A p S n := if_neg (by rw [h]; decide)
/-- one set is tried -/
def byB (A : ld_t) (T : Nat → Nat → Bool) (sM p S : Nat) (b : Option Nat) : Option Nat := if S.testBit p = false ∧ (∀ k, b = some k → coinS A S (lA A 1 2) < coinS A k (lA A 1 2)) ∧ a_can (buyS A p S (lA A 1 2)) T sM p = true then some S else b
noncomputable def byD (A : ld_t) (T : Nat → Nat → Bool) (sM p S : Nat) (b : Option Nat) : Option Nat := match b with
  | none => if S.testBit p = false ∧ a_can (buyS A p S (lA A 1 2)) T sM p = true then some S else none
  | some k => if S.testBit p = false ∧ coinS A S (lA A 1 2) < coinS A k (lA A 1 2) ∧ a_can (buyS A p S (lA A 1 2)) T sM p = true then some S else some k
noncomputable def byF (A : ld_t) (T : Nat → Nat → Bool) (sM p n : Nat) : Option Nat := fo_ (byD A T sM p) none n
theorem byD_p {A : ld_t} {T : Nat → Nat → Bool} {sM p S : Nat} {b : Option Nat} (h : S.testBit p = true) : byD A T sM p S b = b := by
  cases b with
  | none => exact if_neg (fun z => by rw [h] at z; cases z.1)
  | some k => exact if_neg (fun z => by rw [h] at z; cases z.1)
theorem byD_c {A : ld_t} {T : Nat → Nat → Bool} {sM p S k : Nat} (h : ¬ coinS A S (lA A 1 2) < coinS A k (lA A 1 2)) : byD A T sM p S (some k) = some k := if_neg (fun z => h z.2.1)
theorem byD_g {A : ld_t} {T : Nat → Nat → Bool} {sM p S : Nat} {b : Option Nat} (h : a_can (buyS A p S (lA A 1 2)) T sM p = false) : byD A T sM p S b = b := by
  cases b with
  | none => exact if_neg (fun z => by rw [h] at z; cases z.2)
  | some k => exact if_neg (fun z => by rw [h] at z; cases z.2.2)
theorem byD_n {A : ld_t} {T : Nat → Nat → Bool} {sM p S : Nat} (h1 : S.testBit p = false) (h3 : a_can (buyS A p S (lA A 1 2)) T sM p = true) : byD A T sM p S none = some S := if_pos ⟨h1, h3⟩
theorem byD_s {A : ld_t} {T : Nat → Nat → Bool} {sM p S k : Nat} (h1 : S.testBit p = false) (h2 : coinS A S (lA A 1 2) < coinS A k (lA A 1 2)) (h3 : a_can (buyS A p S (lA A 1 2)) T sM p = true) : byD A T sM p S (some k) = some S := if_pos ⟨h1, h2, h3⟩
theorem byF_lt {A : ld_t} {T : Nat → Nat → Bool} {sM p : Nat} : ∀ n k, byF A T sM p n = some k → k < n
  | 0, k, h => by cases h
  | n + 1, k, h => by
    have ih := byF_lt (A := A) (T := T) (sM := sM) (p := p) n
    have h : byD A T sM p n (byF A T sM p n) = some k := h
    cases c : n.testBit p
    · cases d : a_can (buyS A p n (lA A 1 2)) T sM p
      · rw [byD_g d] at h
        have := ih k h; omega
      · cases e : byF A T sM p n with
        | none => rw [e, byD_n c d] at h; cases h; omega
        | some j =>
          have := ih j e
          by_cases f : coinS A n (lA A 1 2) < coinS A j (lA A 1 2)
          · rw [e, byD_s c f d] at h; cases h; omega
          · rw [e, byD_c f] at h; cases h; omega
    · rw [byD_p c] at h
      have := ih k h; omega
/-- what the best costs -/
def enL (A : ld_t) (b : Option Nat) : Nat := match b with
  | none => 100000
  | some k => coinS A k (lA A 1 2)
section JKK
variable {q : ph_t} {I : iF} {L : lF_} {A : ld_t} {T : Nat → Nat → Bool} {sM : Nat}
/-- the model: one's worlds are cut by another's -/
theorem kE_by130 {B : ld_t} (K : mK q I B T sM) {p o S : Nat} (hp : p < lA B 1 2) (ho : o < lA B 1 2) (hop : o ≠ p) (c : S.testBit o = true) (w v3 v4 v6 : Int32) : ∃ I', fX3_bought_L130 136 (nI p) w v3 v4 (nI S) v6 (nI o) (nI 0) (hw q I L) = some (.inl (nI (o + 1), hw q I' L)) ∧ hdF I I' p ∧ mK q I' (lHs B p (fun w => lH B p w && lH B o w)) T sM := by
  have K0 := K
  obtain ⟨M, R, hT, hsM, W, h24⟩ := K
  have h6 := W.1.2.2.1
  have e : rI_ (I 151) (8 * p) (lH B p) := R.2.1 p (Or.inl hp)
  have e2 : rI_ (I 151) (8 * o) (lH B o) := R.2.1 o (Or.inl ho)
  have : ∃ t, fX3_bought_L130 136 (nI p) w v3 v4 (nI S) v6 (nI o) (nI 0) (hw q I L) = some t ∧ ∃ I', t = .inl (nI (o + 1), hw q I' L) ∧ hdF I I' p ∧ ∀ k, k < 8 → I' 151 (8 * p + k) = I 151 (8 * p + k) &&& I 151 (8 * o + k) := by
    unfold fX3_bought_L130
    refine whl_st (α := iF) (fun k U => (nI k, hw q U L)) (fun i U => hdF I U p ∧ ∀ k, k < 8 → U 151 (8 * p + k) = if k < i then I 151 (8 * p + k) &&& I 151 (8 * o + k) else I 151 (8 * p + k)) 8 (a := I) rfl ⟨hdF.rf, fun k _ => by rw [if_neg (by omega)]⟩ ?_ ?_
    · rintro i U hi ⟨f1, f2⟩
      have e1 := f2 i hi
      rw [if_neg (by omega)] at e1
      have eo : U 151 (8 * o + i) = I 151 (8 * o + i) := f1.2 _ (by omega)
      refine ⟨_, by simp (disch := omega) only [fX3_bought_L130_b, nL, nI_add, nJ_mul, nJ_div, nJ_mod, nI_leI, nI_ltI, nI_eq, Option.bind_some, Option.bind_none, Nat.one_ne_zero, Nat.zero_ne_one, Nat.zero_add, Nat.add_zero, if_true, if_false, not_true_eq_false, not_false_eq_true, show ¬ 8 ≤ i by omega, mE_hasN, c, gm15 M, xm151 M, ym151 M] <;> rfl, f1.up (by omega), fun k hk => ?_⟩
      rw [e1, eo, pu_at]
      by_cases c2 : k = i
      · subst c2
        rw [if_pos rfl, if_pos (by omega)]
      · rw [if_neg (by omega), f2 k hk]
        by_cases c3 : k < i
        · rw [if_pos c3, if_pos (by omega)]
        · rw [if_neg c3, if_neg (by omega)]
    · rintro U ⟨f1, f2⟩
      exact ⟨_, by simp (disch := omega) only [fX3_bought_L130_b, fX3_bought_L181, nL, nI_add, nJ_mul, nJ_div, nJ_mod, nI_leI, nI_ltI, nI_eq, Option.bind_some, Option.bind_none, Nat.one_ne_zero, Nat.zero_ne_one, Nat.zero_add, Nat.add_zero, if_true, if_false, not_true_eq_false, not_false_eq_true, Nat.le_refl, xr_s] <;> rfl, U, rfl, f1, fun k hk => by rw [f2 k hk, if_pos hk]⟩
  obtain ⟨t, h1, I', rfl, h2, h3⟩ := this
  refine ⟨I', h1, h2, K0.next h2.fr (mlR_held R h2 fun w hw_ => ?_) (lW_held W fun hh w hb => W.2.2.2.2.2 p w hh (by simp only [Bool.and_eq_true] at hb; exact hb.1))⟩
  rw [h3 _ (by omega), b_and, e w hw_, e2 w hw_]
theorem kE_by116 {J : iF} (K : mK q J A T sM) (RA : mlR (mlI J 4) A) {p S : Nat} (hp : p < lA A 1 2) (hS : S < 64) (c : S.testBit p = false) (w v3 : Int32) (v4 v6 : Nat) : ∃ J', fX3_bought_L116 136 (nI p) w v3 (nI v4) (nI S) (nI v6) (nI 0) (hw q J L) = some (.inl (if a_can (buyS A p S (lA A 1 2)) T sM p then nI S else v3, if a_can (buyS A p S (lA A 1 2)) T sM p then nI v6 else nI v4, nI (S + 1), hw q J' L)) ∧ frT J J' ∧ mK q J' A T sM ∧ mlR (mlI J' 4) A := by
  obtain ⟨M, R, hT, hsM, W, h24⟩ := id K
  have w2 := W.1.2.2.1
  have : ∃ t, fX3_bought_L116 136 (nI p) w v3 (nI v4) (nI S) (nI v6) (nI 0) (hw q J L) = some t ∧ ∃ J', t = .inl (if a_can (buyS A p S (lA A 1 2)) T sM p then nI S else v3, if a_can (buyS A p S (lA A 1 2)) T sM p then nI v6 else nI v4, nI (S + 1), hw q J' L) ∧ frT J J' ∧ mK q J' A T sM ∧ mlR (mlI J' 4) A := by
    unfold fX3_bought_L116
    refine whl_st (α := iF) (fun o U => (nI o, hw q U L)) (fun o U => (∀ a, a ≠ 151 → U a = J a) ∧ mK q U (buyS A p S o) T sM) (lA A 1 2) (a := J) rfl ⟨fun _ _ => rfl, K⟩ ?_ ?_
    · rintro o U ho ⟨f1, f2⟩
      have r2 : U 137 2 = nI (lA A 1 2) := by rw [f1 137 (by decide)]; exact rm1 R (by decide)
      cases co : S.testBit o
      · rw [buyS_0 co]
        refine ⟨U, ?_, f1, f2⟩
        have e130 : fX3_bought_L130 136 (nI p) w v3 (nI v4) (nI S) (nI v6) (nI o) (nI 0) (hw q U L) = some (.inl (nI (o + 1), hw q U L)) := by
          unfold fX3_bought_L130
          rw [whl_eq]
          simp (disch := omega) only [fX3_bought_L130_b, fX3_bought_L181, nL, nI_add, nJ_mul, nJ_div, nJ_mod, nI_leI, nI_ltI, nI_eq, Option.bind_some, Option.bind_none, Nat.one_ne_zero, Nat.zero_ne_one, Nat.zero_add, Nat.add_zero, if_true, if_false, not_true_eq_false, not_false_eq_true, show ¬ 8 ≤ 0 by omega, mE_hasN, co, Bool.false_eq_true, xr_s]
        simp (disch := omega) only [fX3_bought_L116_b, nL, nI_add, nJ_mul, nJ_div, nJ_mod, nI_leI, nI_ltI, nI_eq, Option.bind_some, Option.bind_none, Nat.one_ne_zero, Nat.zero_ne_one, Nat.zero_add, Nat.add_zero, if_true, if_false, not_true_eq_false, not_false_eq_true, gm1 M, xm137 M, r2, show ¬ lA A 1 2 ≤ o by omega, e130]
      · rw [buyS_1 co]
        have hop : o ≠ p := fun z => by rw [z, c] at co; cases co
        obtain ⟨U', a1, a2, a3⟩ := kE_by130 (L := L) f2 (p := p) (o := o) (S := S) (by rw [buyS_A]; exact hp) (by rw [buyS_A]; exact ho) hop co w v3 (nI v4) (nI v6)
        exact ⟨U', by simp (disch := omega) only [fX3_bought_L116_b, nL, nI_add, nJ_mul, nJ_div, nJ_mod, nI_leI, nI_ltI, nI_eq, Option.bind_some, Option.bind_none, Nat.one_ne_zero, Nat.zero_ne_one, Nat.zero_add, Nat.add_zero, if_true, if_false, not_true_eq_false, not_false_eq_true, gm1 M, xm137 M, r2, show ¬ lA A 1 2 ≤ o by omega, a1], fun a ha => by rw [a2.1 a ha]; exact f1 a ha, a3⟩
    · rintro U ⟨f1, f2⟩
      have r2 : U 137 2 = nI (lA A 1 2) := by rw [f1 137 (by decide)]; exact rm1 R (by decide)
      have eC := kE_can (L := L) f2 (p := p) (by rw [buyS_A]; exact hp)
      obtain ⟨U2, a1, a2, a3, a4, a5⟩ := kE_laysBack (L := L) f2 (A := A) (by rw [mlI_eq (f1 188 (by decide))]; exact RA) W
      have e188 : U2 188 = J 188 := by rw [a3 188 (by omega), f1 188 (by decide)]
      have fr : frT J U2 := (frT_row (fun a h1 h2 => f1 a (by omega)) (fun j hj => by rw [f1 136 (by decide)])).tr a2
      cases c : a_can (buyS A p S (lA A 1 2)) T sM p
      · exact ⟨_, by simp (disch := omega) only [fX3_bought_L116_b, fX3_bought_L210, fX3_bought_L223, fX3_bought_L224, nL, nI_add, nJ_mul, nJ_div, nJ_mod, nI_leI, nI_ltI, nI_eq, Option.bind_some, Option.bind_none, Nat.one_ne_zero, Nat.zero_ne_one, Nat.zero_add, Nat.add_zero, if_true, if_false, not_true_eq_false, not_false_eq_true, gm1 M, xm137 M, r2, Nat.le_refl, dm M, eC, c, a1, Bool.false_eq_true, xr_s] <;> rfl, U2, rfl, fr, a5, by rw [mlI_eq e188]; exact RA⟩
      · exact ⟨_, by simp (disch := omega) only [fX3_bought_L116_b, fX3_bought_L210, fX3_bought_L223, fX3_bought_L224, nL, nI_add, nJ_mul, nJ_div, nJ_mod, nI_leI, nI_ltI, nI_eq, Option.bind_some, Option.bind_none, Nat.one_ne_zero, Nat.zero_ne_one, Nat.zero_add, Nat.add_zero, if_true, if_false, not_true_eq_false, not_false_eq_true, gm1 M, xm137 M, r2, Nat.le_refl, dm M, eC, c, a1, xr_s] <;> rfl, U2, rfl, fr, a5, by rw [mlI_eq e188]; exact RA⟩
  obtain ⟨t, a1, J', rfl, a2⟩ := this
  exact ⟨J', a1, a2⟩
/-- the model's coins, and what comes behind them -/
theorem kE_by54 (K : mK q I A T sM) {p S : Nat} (hp : p < lA A 1 2) (hS : S < 64) (w v3 : Int32) (v4 : Nat) : fX3_bought_L54 136 (nI p) w v3 (nI v4) (nI S) (nI 0) (nI 0) (hw q I L) = whl (fun s => fX3_bought_L54_b 136 (nI p) w v3 (nI v4) (nI S) s.1 s.2.1 s.2.2) (nI (coinS A S (lA A 1 2)), nI (lA A 1 2), hw q I L) := by
  obtain ⟨M, R, hT, hsM, W, h24⟩ := id K
  have w2 := W.1.2.2.1
  unfold fX3_bought_L54
  refine whl_to (f := fun s : Int32 × Int32 × ph_t => fX3_bought_L54_b 136 (nI p) w v3 (nI v4) (nI S) s.1 s.2.1 s.2.2) (fun o => (nI (coinS A S o), nI o, hw q I L)) (lA A 1 2) (fun o ho => ?_)
  have wc := coinS_le W (S := S) o (by omega)
  have w4 := (W.2.1 o ho).2.2.2.1
  rw [coinS_s]
  cases c : S.testBit o
  · simp (disch := omega) only [fX3_bought_L54_b, fX3_bought_L88, nm_, nL, nI_add, nJ_mul, nJ_div, nJ_mod, nI_leI, nI_ltI, nI_eq, Option.bind_some, Option.bind_none, Nat.one_ne_zero, Nat.zero_ne_one, Nat.zero_add, Nat.add_zero, if_true, if_false, not_true_eq_false, not_false_eq_true, gm1 M, xm137 M, rm1 R, show ¬ lA A 1 2 ≤ o by omega, mE_hasN, c, Bool.false_eq_true]
  · simp (disch := omega) only [fX3_bought_L54_b, fX3_bought_L88, nm_, nL, nI_add, nJ_mul, nJ_div, nJ_mod, nI_leI, nI_ltI, nI_eq, Option.bind_some, Option.bind_none, Nat.one_ne_zero, Nat.zero_ne_one, Nat.zero_add, Nat.add_zero, if_true, if_false, not_true_eq_false, not_false_eq_true, gm1 M, xm137 M, rm1 R, show ¬ lA A 1 2 ≤ o by omega, mE_hasN, c, gm4 M, xm140 M, rm4 R]
theorem enL_s {k : Nat} : enL A (some k) = coinS A k (lA A 1 2) := rfl
theorem kE_by35 {J : iF} (K : mK q J A T sM) (RA : mlR (mlI J 4) A) {p : Nat} (hp : p < lA A 1 2) (w : Int32) : ∃ J', fX3_bought_L35 136 (nI p) w (-(nI 2)) (nI 100000) (nI 0) (hw q J L) = some (if byF A T sM p (2 ^ lA A 1 2) = none ∨ w = nI 1 then enO (byF A T sM p (2 ^ lA A 1 2)) else nI (enL A (byF A T sM p (2 ^ lA A 1 2))), hw q J' L) ∧ frT J J' ∧ mK q J' A T sM := by
  obtain ⟨M, R, hT, hsM, W, h24⟩ := id K
  have w2 := W.1.2.2.1
  have hp6 : 2 ^ lA A 1 2 ≤ 2 ^ 6 := Nat.pow_le_pow_right (by decide) w2
  have ef := nJ_shl (k := lA A 1 2) (by omega)
  rw [nL 1] at ef
  have hcl : ∀ S, coinS A S (lA A 1 2) ≤ 594 := fun S => by have := coinS_le W (S := S) _ (Nat.le_refl _); omega
  have : ∃ t, fX3_bought_L35 136 (nI p) w (-(nI 2)) (nI 100000) (nI 0) (hw q J L) = some t ∧ ∃ J', t = (if byF A T sM p (2 ^ lA A 1 2) = none ∨ w = nI 1 then enO (byF A T sM p (2 ^ lA A 1 2)) else nI (enL A (byF A T sM p (2 ^ lA A 1 2))), hw q J' L) ∧ frT J J' ∧ mK q J' A T sM := by
    unfold fX3_bought_L35
    refine whl_st (α := iF) (fun S U => (enO (byF A T sM p S), nI (enL A (byF A T sM p S)), nI S, hw q U L)) (fun S U => frT J U ∧ mK q U A T sM ∧ mlR (mlI U 4) A) (2 ^ lA A 1 2) (a := J) rfl ⟨frT.rf, K, RA⟩ ?_ ?_
    · rintro S U hS ⟨f1, f2, f3⟩
      have r2 : U 137 2 = nI (lA A 1 2) := rm1 f2.2.1 (by decide)
      have ob := byF_lt (A := A) (T := T) (sM := sM) (p := p) S
      have hc := hcl S
      rw [show byF A T sM p (S + 1) = byD A T sM p S (byF A T sM p S) from rfl]
      generalize byF A T sM p S = b at ob
      have e54 := kE_by54 (L := L) f2 hp (S := S) (by omega) w (enO b) (enL A b)
      have hL : enL A b ≤ 100000 := by
        cases b with
        | none => exact Nat.le_refl _
        | some k => have := hcl k; rw [enL_s]; omega
      cases c : S.testBit p
      · by_cases cc : coinS A S (lA A 1 2) < enL A b
        · obtain ⟨U', a1, a2, a3, a4⟩ := kE_by116 (L := L) f2 f3 hp (S := S) (by omega) c w (enO b) (enL A b) (coinS A S (lA A 1 2))
          refine ⟨U', ?_, f1.tr a2, a3, a4⟩
          have fin : fX3_bought_L54 136 (nI p) w (enO b) (nI (enL A b)) (nI S) (nI 0) (nI 0) (hw q U L) = some (.inl (enO (byD A T sM p S b), nI (enL A (byD A T sM p S b)), nI (S + 1), hw q U' L)) := by
            rw [e54]
            refine whl_end ?_
            cases d : a_can (buyS A p S (lA A 1 2)) T sM p
            · rw [byD_g d]
              rw [d] at a1
              simp only [Bool.false_eq_true, if_false] at a1
              simp (disch := omega) only [fX3_bought_L54_b, nL, nI_add, nJ_mul, nJ_div, nJ_mod, nI_leI, nI_ltI, nI_eq, Option.bind_some, Option.bind_none, Nat.one_ne_zero, Nat.zero_ne_one, Nat.zero_add, Nat.add_zero, if_true, if_false, not_true_eq_false, not_false_eq_true, gm1 M, xm137 M, r2, Nat.le_refl, mE_hasN, c, show ¬ enL A b ≤ coinS A S (lA A 1 2) by omega, a1, Bool.false_eq_true, xr_s]
            · rw [d] at a1
              simp only [if_true] at a1
              have eD : byD A T sM p S b = some S := by
                cases b with
                | none => exact byD_n c d
                | some k => exact byD_s c cc d
              rw [eD, enO_s, enL_s]
              simp (disch := omega) only [fX3_bought_L54_b, nL, nI_add, nJ_mul, nJ_div, nJ_mod, nI_leI, nI_ltI, nI_eq, Option.bind_some, Option.bind_none, Nat.one_ne_zero, Nat.zero_ne_one, Nat.zero_add, Nat.add_zero, if_true, if_false, not_true_eq_false, not_false_eq_true, gm1 M, xm137 M, r2, Nat.le_refl, mE_hasN, c, show ¬ enL A b ≤ coinS A S (lA A 1 2) by omega, a1, Bool.false_eq_true, xr_s]
          simp (disch := omega) only [fX3_bought_L35_b, nL, nI_add, nJ_mul, nJ_div, nJ_mod, nI_leI, nI_ltI, nI_eq, Option.bind_some, Option.bind_none, Nat.one_ne_zero, Nat.zero_ne_one, Nat.zero_add, Nat.add_zero, if_true, if_false, not_true_eq_false, not_false_eq_true, gm1 M, xm137 M, r2, ef, show ¬ 2 ^ lA A 1 2 ≤ S by omega, fin]
        · refine ⟨U, ?_, f1, f2, f3⟩
          have eD : byD A T sM p S b = b := by
            cases b with
            | none => exact absurd (show coinS A S (lA A 1 2) < 100000 by omega) cc
            | some k => exact byD_c cc
          rw [eD]
          have fin : fX3_bought_L54 136 (nI p) w (enO b) (nI (enL A b)) (nI S) (nI 0) (nI 0) (hw q U L) = some (.inl (enO b, nI (enL A b), nI (S + 1), hw q U L)) := by
            rw [e54]
            refine whl_end ?_
            simp (disch := omega) only [fX3_bought_L54_b, fX3_bought_L224, nL, nI_add, nJ_mul, nJ_div, nJ_mod, nI_leI, nI_ltI, nI_eq, Option.bind_some, Option.bind_none, Nat.one_ne_zero, Nat.zero_ne_one, Nat.zero_add, Nat.add_zero, if_true, if_false, not_true_eq_false, not_false_eq_true, gm1 M, xm137 M, r2, Nat.le_refl, mE_hasN, c, show enL A b ≤ coinS A S (lA A 1 2) by omega, Bool.false_eq_true, xr_s]
          simp (disch := omega) only [fX3_bought_L35_b, nL, nI_add, nJ_mul, nJ_div, nJ_mod, nI_leI, nI_ltI, nI_eq, Option.bind_some, Option.bind_none, Nat.one_ne_zero, Nat.zero_ne_one, Nat.zero_add, Nat.add_zero, if_true, if_false, not_true_eq_false, not_false_eq_true, gm1 M, xm137 M, r2, ef, show ¬ 2 ^ lA A 1 2 ≤ S by omega, fin]
      · refine ⟨U, ?_, f1, f2, f3⟩
        rw [byD_p c]
        have fin : fX3_bought_L54 136 (nI p) w (enO b) (nI (enL A b)) (nI S) (nI 0) (nI 0) (hw q U L) = some (.inl (enO b, nI (enL A b), nI (S + 1), hw q U L)) := by
          rw [e54]
          refine whl_end ?_
          simp (disch := omega) only [fX3_bought_L54_b, fX3_bought_L224, nL, nI_add, nJ_mul, nJ_div, nJ_mod, nI_leI, nI_ltI, nI_eq, Option.bind_some, Option.bind_none, Nat.one_ne_zero, Nat.zero_ne_one, Nat.zero_add, Nat.add_zero, if_true, if_false, not_true_eq_false, not_false_eq_true, gm1 M, xm137 M, r2, Nat.le_refl, mE_hasN, c, xr_s]
        simp (disch := omega) only [fX3_bought_L35_b, nL, nI_add, nJ_mul, nJ_div, nJ_mod, nI_leI, nI_ltI, nI_eq, Option.bind_some, Option.bind_none, Nat.one_ne_zero, Nat.zero_ne_one, Nat.zero_add, Nat.add_zero, if_true, if_false, not_true_eq_false, not_false_eq_true, gm1 M, xm137 M, r2, ef, show ¬ 2 ^ lA A 1 2 ≤ S by omega, fin]
    · rintro U ⟨f1, f2, f3⟩
      have r2 : U 137 2 = nI (lA A 1 2) := rm1 f2.2.1 (by decide)
      have ob := byF_lt (A := A) (T := T) (sM := sM) (p := p) (2 ^ lA A 1 2)
      generalize byF A T sM p (2 ^ lA A 1 2) = b at ob
      cases b with
      | none => exact ⟨_, by simp (disch := omega) only [fX3_bought_L35_b, fX3_bought_L241, nL, nI_add, nJ_mul, nJ_div, nJ_mod, nI_leI, nI_ltI, nI_eq, Option.bind_some, Option.bind_none, Nat.one_ne_zero, Nat.zero_ne_one, Nat.zero_add, Nat.add_zero, if_true, if_false, not_true_eq_false, not_false_eq_true, gm1 M, xm137 M, r2, ef, Nat.le_refl, enO_n, xr_s, true_or] <;> rfl, U, rfl, f1, f2⟩
      | some k =>
        have hk := ob k rfl
        have e2 := nI_m2 (p := k) (by omega)
        by_cases c : w = nI 1
        · exact ⟨_, by simp (disch := omega) only [fX3_bought_L35_b, fX3_bought_L241, nL, nI_add, nJ_mul, nJ_div, nJ_mod, nI_leI, nI_ltI, nI_eq, Option.bind_some, Option.bind_none, Nat.one_ne_zero, Nat.zero_ne_one, Nat.zero_add, Nat.add_zero, if_true, if_false, not_true_eq_false, not_false_eq_true, gm1 M, xm137 M, r2, ef, Nat.le_refl, enO_s, e2, c, xr_s] <;> rfl, U, by rw [if_pos (Or.inr c)]; rfl, f1, f2⟩
        · exact ⟨_, by simp (disch := omega) only [fX3_bought_L35_b, fX3_bought_L241, nL, nI_add, nJ_mul, nJ_div, nJ_mod, nI_leI, nI_ltI, nI_eq, Option.bind_some, Option.bind_none, Nat.one_ne_zero, Nat.zero_ne_one, Nat.zero_add, Nat.add_zero, if_true, if_false, not_true_eq_false, not_false_eq_true, gm1 M, xm137 M, r2, ef, Nat.le_refl, enO_s, e2, c, xr_s] <;> rfl, U, by rw [if_neg (by simp [c])], f1, f2⟩
  obtain ⟨t, a1, J', rfl, a2⟩ := this
  exact ⟨J', a1, a2⟩
-- TruthBridge's
theorem bK_paidFor (K : bK q 66 I L A T sM) (hl : ph_R q 64 2 = some 66) {S : Nat} : fX0_paidFor 64 (nI S) (hw q I L) = some (nI (coinS A S (lA A 1 2)), hw q I L) := by
  obtain ⟨X, G, R, hT, hsM, W, h24, -⟩ := id K
  have w2 := W.1.2.2.1
  unfold fX0_paidFor fX0_paidFor_L4
  refine whl_for (fun o => (nI (coinS A S o), nI o, hw q I L)) (lA A 1 2) rfl (fun o ho => ?_) ?_
  · have wc := coinS_le W (S := S) o (by omega)
    have w4 := (W.2.1 o ho).2.2.2.1
    rw [coinS_s]
    cases c : S.testBit o
    · simp (disch := omega) only [fX0_paidFor_L4_b, fX0_paidFor_L37, nm_, nL, nI_add, nJ_mul, nJ_div, nJ_mod, nI_leI, nI_ltI, nI_eq, Option.bind_some, Option.bind_none, Nat.one_ne_zero, Nat.zero_ne_one, Nat.zero_add, Nat.add_zero, if_true, if_false, not_true_eq_false, not_false_eq_true, gx2 X hl, gl_I G, R.f2, show ¬ lA A 1 2 ≤ o by omega, bE_hasN, c, Bool.false_eq_true]
    · simp (disch := omega) only [fX0_paidFor_L4_b, fX0_paidFor_L37, nm_, nL, nI_add, nJ_mul, nJ_div, nJ_mod, nI_leI, nI_ltI, nI_eq, Option.bind_some, Option.bind_none, Nat.one_ne_zero, Nat.zero_ne_one, Nat.zero_add, Nat.add_zero, if_true, if_false, not_true_eq_false, not_false_eq_true, gx2 X hl, gl_I G, R.f2, show ¬ lA A 1 2 ≤ o by omega, bE_hasN, c, gl11 G, xl11 G, rl3 R]
  · simp (disch := omega) only [fX0_paidFor_L4_b, nL, nI_add, nJ_mul, nJ_div, nJ_mod, nI_leI, nI_ltI, nI_eq, Option.bind_some, Option.bind_none, Nat.one_ne_zero, Nat.zero_ne_one, Nat.zero_add, Nat.add_zero, if_true, if_false, not_true_eq_false, not_false_eq_true, gx2 X hl, gl_I G, R.f2, Nat.le_refl, xr_s]
theorem bK_by27 {B : ld_t} (K : bK q 66 I L A T sM) (hl : ph_R q 64 2 = some 66) (K8 : bK q 80 I L B T sM) (hB : lH B = lH B) {p o S : Nat} (hp : p < lA B 1 2) (ho : o < lA A 1 2) (c : S.testBit o = true) : ∃ L', fX0_isBuyGood_L27 64 (nI p) (nI S) (some 80) (nI o) (nI 0) (hw q I L) = some (.inl (nI (o + 1), hw q I L')) ∧ hdG 80 L L' p ∧ bK q 80 I L' (lHs B p (fun w => lH B p w && lH A o w)) T sM := by
  obtain ⟨X, G, R, hT, hsM, W, h24, -⟩ := id K
  have K0 := K8
  obtain ⟨-, G8, R8, -, -, W8, -, -⟩ := K8
  have w2 := W.1.2.2.1
  have w28 := W8.1.2.2.1
  have e := R8.hd (who := p) (Or.inl hp)
  have e2 : rL_ (L 77) (4 * o) (lH A o) := R.hd (Or.inl ho)
  have s19 : ∀ U : lF_, gR (hw q I U) (some 80) 1 19 = some (some 91) := fun U => gg19 G8
  have t19 : ∀ (U : lF_) k, k < 28 → xL (hw q I U) (some 91) 21 (nI k) = some (U 91 k) := fun U k hk => xg19 G8 hk
  have u19 : ∀ (U : lF_) k v, k < 28 → yL (hw q I U) (some 91) 21 (nI k) v = some (hw q I (ph_u U 91 k v)) := fun U k v hk => yg19 G8 hk
  have : ∃ t, fX0_isBuyGood_L27 64 (nI p) (nI S) (some 80) (nI o) (nI 0) (hw q I L) = some t ∧ ∃ L', t = .inl (nI (o + 1), hw q I L') ∧ hdG 80 L L' p ∧ ∀ k, k < 4 → L' 91 (4 * p + k) = L 91 (4 * p + k) &&& L 77 (4 * o + k) := by
    unfold fX0_isBuyGood_L27
    refine whl_st (α := lF_) (fun k U => (nI k, hw q I U)) (fun i U => hdG 80 L U p ∧ ∀ k, k < 4 → U 91 (4 * p + k) = if k < i then L 91 (4 * p + k) &&& L 77 (4 * o + k) else L 91 (4 * p + k)) 4 (a := L) rfl ⟨hdG.rf, fun k _ => by rw [if_neg (by omega)]⟩ ?_ ?_
    · rintro i U hi ⟨f1, f2⟩
      have e1 := f2 i hi
      rw [if_neg (by omega)] at e1
      have eo : U 77 = L 77 := f1.1 77 (by decide)
      refine ⟨ph_u U 91 (4 * p + i) (U 91 (4 * p + i) &&& U 77 (4 * o + i)), by simp (disch := omega) only [fX0_isBuyGood_L27_b, nL, nI_add, nJ_mul, nJ_div, nJ_mod, nI_leI, nI_ltI, nI_eq, Option.bind_some, Option.bind_none, Nat.one_ne_zero, Nat.zero_ne_one, Nat.zero_add, Nat.add_zero, if_true, if_false, not_true_eq_false, not_false_eq_true, show ¬ 4 ≤ i by omega, bE_hasN, c, s19, t19, u19, gx2 X hl, gl19 G, xl19 G], f1.up (g := 80) (by omega), fun k hk => ?_⟩
      rw [e1, eo, pu_at]
      by_cases c2 : k = i
      · subst c2
        rw [if_pos rfl, if_pos (by omega)]
      · rw [if_neg (by omega), f2 k hk]
        by_cases c3 : k < i
        · rw [if_pos c3, if_pos (by omega)]
        · rw [if_neg c3, if_neg (by omega)]
    · rintro U ⟨f1, f2⟩
      exact ⟨_, by simp (disch := omega) only [fX0_isBuyGood_L27_b, fX0_isBuyGood_L77, nL, nI_add, nJ_mul, nJ_div, nJ_mod, nI_leI, nI_ltI, nI_eq, Option.bind_some, Option.bind_none, Nat.one_ne_zero, Nat.zero_ne_one, Nat.zero_add, Nat.add_zero, if_true, if_false, not_true_eq_false, not_false_eq_true, Nat.le_refl, xr_s] <;> rfl, U, rfl, f1, fun k hk => by rw [f2 k hk, if_pos hk]⟩
  obtain ⟨t, h1, L', rfl, h2, h3⟩ := this
  refine ⟨L', h1, h2, K0.next frG.rf h2.fr (glR_hold R8 h2 fun w hw_ => ?_) (lW_held W8 fun hh w hb => W8.2.2.2.2.2 p w hh (by simp only [Bool.and_eq_true] at hb; exact hb.1))⟩
  rw [show (80 : Nat) + 11 = 91 from rfl, h3 _ (by omega), bl_and, e2 w hw_]
  rw [show (btl (L 91 (4 * p + w / 64)) (w % 64)) = lH B p w from e w hw_]
theorem bK_buyGood (K : bK q 66 I L A T sM) (hl : ph_R q 64 2 = some 66) (hS0 : spS I L A) {p S : Nat} (hp : p < lA A 1 2) (hS : S < 64) (cp : S.testBit p = false) : ∃ I' L', fX0_isBuyGood 64 (nI p) (nI S) (hw q I L) = some (nI (if a_can (buyS A p S (lA A 1 2)) T sM p then 1 else 0), hw q I' L') ∧ frG 80 I I' ∧ frH 80 L L' ∧ spS I' L' A := by
  obtain ⟨X, G, R, hT, hsM, W, h24, -⟩ := id K
  have w2 := W.1.2.2.1
  obtain ⟨B, hB, hB1, hB2⟩ := hS0
  obtain ⟨I1, L1, a1, a2, a3, a4⟩ := bK_stands (L := L) K X.spare (by decide) (by decide) hB hB1 hB2
  have G8 := X.spare
  have r2 : I1 80 2 = nI (lA A 1 2) := a4.2.2.1.f2
  have : ∃ t, fX0_isBuyGood_L15 64 (nI p) (nI S) (some 80) (nI 0) (hw q I1 L1) = some t ∧ ∃ L', t = (nI (if a_can (buyS A p S (lA A 1 2)) T sM p then 1 else 0), hw q I1 L') ∧ frH 80 L1 L' ∧ bK q 80 I1 L' (buyS A p S (lA A 1 2)) T sM := by
    unfold fX0_isBuyGood_L15
    refine whl_st (α := lF_) (fun k U => (nI k, hw q I1 U)) (fun k U => frH 80 L1 U ∧ bK q 80 I1 U (buyS A p S k) T sM) (lA A 1 2) (a := L1) rfl ⟨frH.rf, a4⟩ ?_ ?_
    · rintro k U hk ⟨f1, f2⟩
      cases c : S.testBit k
      · rw [buyS_0 c]
        refine ⟨U, ?_, f1, f2⟩
        have e27 : fX0_isBuyGood_L27 64 (nI p) (nI S) (some 80) (nI k) (nI 0) (hw q I1 U) = some (.inl (nI (k + 1), hw q I1 U)) := by
          unfold fX0_isBuyGood_L27
          rw [whl_eq]
          simp (disch := omega) only [fX0_isBuyGood_L27_b, fX0_isBuyGood_L77, nL, nI_add, nJ_mul, nJ_div, nJ_mod, nI_leI, nI_ltI, nI_eq, Option.bind_some, Option.bind_none, Nat.one_ne_zero, Nat.zero_ne_one, Nat.zero_add, Nat.add_zero, if_true, if_false, not_true_eq_false, not_false_eq_true, show ¬ 4 ≤ 0 by omega, bE_hasN, c, Bool.false_eq_true, xr_s]
        simp (disch := omega) only [fX0_isBuyGood_L15_b, nL, nI_add, nJ_mul, nJ_div, nJ_mod, nI_leI, nI_ltI, nI_eq, Option.bind_some, Option.bind_none, Nat.one_ne_zero, Nat.zero_ne_one, Nat.zero_add, Nat.add_zero, if_true, if_false, not_true_eq_false, not_false_eq_true, gg_I G8, r2, show ¬ lA A 1 2 ≤ k by omega, e27]
      · have hkp : k ≠ p := fun z => by rw [z, cp] at c; cases c
        have KU := K.off (g' := 80) (by decide) (by decide) a2 (a3.tr f1)
        obtain ⟨U', b1, b2, b3⟩ := bK_by27 (L := U) KU hl f2 rfl (p := p) (o := k) (S := S) (by rw [buyS_A]; exact hp) hk c
        rw [buyS_1 c, buyS_H hkp]
        exact ⟨U', by simp (disch := omega) only [fX0_isBuyGood_L15_b, nL, nI_add, nJ_mul, nJ_div, nJ_mod, nI_leI, nI_ltI, nI_eq, Option.bind_some, Option.bind_none, Nat.one_ne_zero, Nat.zero_ne_one, Nat.zero_add, Nat.add_zero, if_true, if_false, not_true_eq_false, not_false_eq_true, gg_I G8, r2, show ¬ lA A 1 2 ≤ k by omega, b1], f1.tr b2.fr, b3⟩
    · rintro U ⟨f1, f2⟩
      have eC := bK_hasWay (L := U) f2 (p := p) (by rw [buyS_A]; exact hp)
      exact ⟨_, by simp (disch := omega) only [fX0_isBuyGood_L15_b, nL, nI_add, nJ_mul, nJ_div, nJ_mod, nI_leI, nI_ltI, nI_eq, Option.bind_some, Option.bind_none, Nat.one_ne_zero, Nat.zero_ne_one, Nat.zero_add, Nat.add_zero, if_true, if_false, not_true_eq_false, not_false_eq_true, gg_I G8, r2, Nat.le_refl, dx X, eC, rz_n, xr_s] <;> rfl, U, rfl, f1, f2⟩
  obtain ⟨t, b1, L2, rfl, b2, b3⟩ := this
  refine ⟨I1, L2, ?_, a2, a3.tr b2, buyS A p S (lA A 1 2), b3.2.2.1.S, fun f i _ => (buyS_A f i _).symm, (buyS_P _).symm⟩
  simp (disch := omega) only [fX0_isBuyGood, nL, nI_add, nJ_mul, nJ_div, nJ_mod, nI_leI, nI_ltI, nI_eq, Option.bind_some, Option.bind_none, Nat.one_ne_zero, Nat.zero_ne_one, Nat.zero_add, Nat.add_zero, if_true, if_false, not_true_eq_false, not_false_eq_true, gx4 X, gx2 X hl, dg G8, a1, b1]
theorem bK_by38 (K : bK q 66 I L A T sM) (hl : ph_R q 64 2 = some 66) (hS0 : spS I L A) {p : Nat} (hp : p < lA A 1 2) (w : Int32) : ∃ I' L', fX0_bought_L38 64 (nI p) w (-(nI 2)) (nI 0) (hw q I L) = some (if byF A T sM p (2 ^ lA A 1 2) = none ∨ w = nI 1 then enO (byF A T sM p (2 ^ lA A 1 2)) else nI (enL A (byF A T sM p (2 ^ lA A 1 2))), hw q I' L') ∧ frG 80 I I' ∧ frH 80 L L' := by
  obtain ⟨X, G, R, hT, hsM, W, h24, -⟩ := id K
  have w2 := W.1.2.2.1
  have hp6 : 2 ^ lA A 1 2 ≤ 2 ^ 6 := Nat.pow_le_pow_right (by decide) w2
  have ef := nJ_shl (k := lA A 1 2) (by omega)
  rw [nL 1] at ef
  have hcl : ∀ S, coinS A S (lA A 1 2) ≤ 594 := fun S => by have := coinS_le W (S := S) _ (Nat.le_refl _); omega
  have : ∃ t, fX0_bought_L38 64 (nI p) w (-(nI 2)) (nI 0) (hw q I L) = some t ∧ ∃ I' L', t = (if byF A T sM p (2 ^ lA A 1 2) = none ∨ w = nI 1 then enO (byF A T sM p (2 ^ lA A 1 2)) else nI (enL A (byF A T sM p (2 ^ lA A 1 2))), hw q I' L') ∧ frG 80 I I' ∧ frH 80 L L' := by
    unfold fX0_bought_L38
    refine whl_st (α := iF × lF_) (fun S U => (enO (byF A T sM p S), nI S, hw q U.1 U.2)) (fun S U => frG 80 I U.1 ∧ frH 80 L U.2 ∧ spS U.1 U.2 A) (2 ^ lA A 1 2) (a := (I, L)) rfl ⟨frG.rf, frH.rf, hS0⟩ ?_ ?_
    · rintro S ⟨U, N⟩ hS ⟨f1, f2, f3⟩
      dsimp only at f1 f2 f3 ⊢
      have KU := K.off (g' := 80) (by decide) (by decide) f1 f2
      have RU := KU.2.2.1
      have ob := byF_lt (A := A) (T := T) (sM := sM) (p := p) S
      have hc := hcl S
      have e1 := bK_paidFor (L := N) KU hl (S := S)
      rw [show byF A T sM p (S + 1) = byD A T sM p S (byF A T sM p S) from rfl]
      generalize byF A T sM p S = b at ob
      cases c : S.testBit p
      · obtain ⟨U', N', a1, a2, a3, a4⟩ := bK_buyGood (L := N) KU hl f3 hp (S := S) (by omega) c
        have fin : fX0_bought_L81 64 (nI p) w (enO b) (nI S) (hw q U N) = some (.inl (if a_can (buyS A p S (lA A 1 2)) T sM p then nI S else enO b, nI (S + 1), hw q U' N')) := by
          cases d : a_can (buyS A p S (lA A 1 2)) T sM p
          · simp (disch := omega) only [fX0_bought_L81, fX0_bought_L97, nL, nI_add, nJ_mul, nJ_div, nJ_mod, nI_leI, nI_ltI, nI_eq, Option.bind_some, Option.bind_none, Nat.one_ne_zero, Nat.zero_ne_one, Nat.zero_add, Nat.add_zero, if_true, if_false, not_true_eq_false, not_false_eq_true, dx X, a1, d, Bool.false_eq_true]
          · simp (disch := omega) only [fX0_bought_L81, fX0_bought_L97, nL, nI_add, nJ_mul, nJ_div, nJ_mod, nI_leI, nI_ltI, nI_eq, Option.bind_some, Option.bind_none, Nat.one_ne_zero, Nat.zero_ne_one, Nat.zero_add, Nat.add_zero, if_true, if_false, not_true_eq_false, not_false_eq_true, dx X, a1, d]
        cases b with
        | none =>
          refine ⟨(U', N'), ?_, f1.tr a2, f2.tr a3, a4⟩
          rw [enO_n] at fin
          cases d : a_can (buyS A p S (lA A 1 2)) T sM p
          · rw [byD_g d]
            rw [d] at fin
            simp only [Bool.false_eq_true, if_false] at fin
            simp (disch := omega) only [fX0_bought_L38_b, nL, nI_add, nJ_mul, nJ_div, nJ_mod, nI_leI, nI_ltI, nI_eq, Option.bind_some, Option.bind_none, Nat.one_ne_zero, Nat.zero_ne_one, Nat.zero_add, Nat.add_zero, if_true, if_false, not_true_eq_false, not_false_eq_true, gx2 X hl, gl_I G, RU.f2, ef, show ¬ 2 ^ lA A 1 2 ≤ S by omega, bE_hasN, c, enO_n, fin, Bool.false_eq_true]
          · rw [byD_n c d]
            rw [d] at fin
            simp only [if_true] at fin
            simp (disch := omega) only [fX0_bought_L38_b, nL, nI_add, nJ_mul, nJ_div, nJ_mod, nI_leI, nI_ltI, nI_eq, Option.bind_some, Option.bind_none, Nat.one_ne_zero, Nat.zero_ne_one, Nat.zero_add, Nat.add_zero, if_true, if_false, not_true_eq_false, not_false_eq_true, gx2 X hl, gl_I G, RU.f2, ef, show ¬ 2 ^ lA A 1 2 ≤ S by omega, bE_hasN, c, enO_n, enO_s, fin, Bool.false_eq_true]
        | some k =>
          have hk := ob k rfl
          have e2 := nI_m2 (p := k) (by omega)
          have e3 := bK_paidFor (L := N) KU hl (S := k)
          have hck := hcl k
          by_cases cc : coinS A S (lA A 1 2) < coinS A k (lA A 1 2)
          · refine ⟨(U', N'), ?_, f1.tr a2, f2.tr a3, a4⟩
            rw [enO_s] at fin
            cases d : a_can (buyS A p S (lA A 1 2)) T sM p
            · rw [byD_g d]
              rw [d] at fin
              simp only [Bool.false_eq_true, if_false] at fin
              simp (disch := omega) only [fX0_bought_L38_b, nL, nI_add, nJ_mul, nJ_div, nJ_mod, nI_leI, nI_ltI, nI_eq, Option.bind_some, Option.bind_none, Nat.one_ne_zero, Nat.zero_ne_one, Nat.zero_add, Nat.add_zero, if_true, if_false, not_true_eq_false, not_false_eq_true, gx2 X hl, gl_I G, RU.f2, ef, show ¬ 2 ^ lA A 1 2 ≤ S by omega, bE_hasN, c, enO_s, e2, dx X, e1, e3, show ¬ coinS A k (lA A 1 2) ≤ coinS A S (lA A 1 2) by omega, fin, Bool.false_eq_true]
            · rw [byD_s c cc d]
              rw [d] at fin
              simp only [if_true] at fin
              simp (disch := omega) only [fX0_bought_L38_b, nL, nI_add, nJ_mul, nJ_div, nJ_mod, nI_leI, nI_ltI, nI_eq, Option.bind_some, Option.bind_none, Nat.one_ne_zero, Nat.zero_ne_one, Nat.zero_add, Nat.add_zero, if_true, if_false, not_true_eq_false, not_false_eq_true, gx2 X hl, gl_I G, RU.f2, ef, show ¬ 2 ^ lA A 1 2 ≤ S by omega, bE_hasN, c, enO_s, e2, dx X, e1, e3, show ¬ coinS A k (lA A 1 2) ≤ coinS A S (lA A 1 2) by omega, fin, Bool.false_eq_true]
          · refine ⟨(U, N), ?_, f1, f2, f3⟩
            rw [byD_c cc]
            simp (disch := omega) only [fX0_bought_L38_b, fX0_bought_L97, nL, nI_add, nJ_mul, nJ_div, nJ_mod, nI_leI, nI_ltI, nI_eq, Option.bind_some, Option.bind_none, Nat.one_ne_zero, Nat.zero_ne_one, Nat.zero_add, Nat.add_zero, if_true, if_false, not_true_eq_false, not_false_eq_true, gx2 X hl, gl_I G, RU.f2, ef, show ¬ 2 ^ lA A 1 2 ≤ S by omega, bE_hasN, c, enO_s, e2, dx X, e1, e3, show coinS A k (lA A 1 2) ≤ coinS A S (lA A 1 2) by omega, Bool.false_eq_true]
      · refine ⟨(U, N), ?_, f1, f2, f3⟩
        rw [byD_p c]
        simp (disch := omega) only [fX0_bought_L38_b, fX0_bought_L97, nL, nI_add, nJ_mul, nJ_div, nJ_mod, nI_leI, nI_ltI, nI_eq, Option.bind_some, Option.bind_none, Nat.one_ne_zero, Nat.zero_ne_one, Nat.zero_add, Nat.add_zero, if_true, if_false, not_true_eq_false, not_false_eq_true, gx2 X hl, gl_I G, RU.f2, ef, show ¬ 2 ^ lA A 1 2 ≤ S by omega, bE_hasN, c]
    · rintro ⟨U, N⟩ ⟨f1, f2, f3⟩
      dsimp only at f1 f2 f3 ⊢
      have KU := K.off (g' := 80) (by decide) (by decide) f1 f2
      have RU := KU.2.2.1
      have ob := byF_lt (A := A) (T := T) (sM := sM) (p := p) (2 ^ lA A 1 2)
      generalize byF A T sM p (2 ^ lA A 1 2) = b at ob
      cases b with
      | none => exact ⟨_, by simp (disch := omega) only [fX0_bought_L38_b, fX0_bought_L114, nL, nI_add, nJ_mul, nJ_div, nJ_mod, nI_leI, nI_ltI, nI_eq, Option.bind_some, Option.bind_none, Nat.one_ne_zero, Nat.zero_ne_one, Nat.zero_add, Nat.add_zero, if_true, if_false, not_true_eq_false, not_false_eq_true, gx2 X hl, gl_I G, RU.f2, ef, Nat.le_refl, enO_n, xr_s, true_or] <;> rfl, U, N, rfl, f1, f2⟩
      | some k =>
        have hk := ob k rfl
        have e2 := nI_m2 (p := k) (by omega)
        have e3 := bK_paidFor (L := N) KU hl (S := k)
        by_cases c : w = nI 1
        · exact ⟨_, by simp (disch := omega) only [fX0_bought_L38_b, fX0_bought_L114, nL, nI_add, nJ_mul, nJ_div, nJ_mod, nI_leI, nI_ltI, nI_eq, Option.bind_some, Option.bind_none, Nat.one_ne_zero, Nat.zero_ne_one, Nat.zero_add, Nat.add_zero, if_true, if_false, not_true_eq_false, not_false_eq_true, gx2 X hl, gl_I G, RU.f2, ef, Nat.le_refl, enO_s, e2, c, xr_s] <;> rfl, U, N, by rw [if_pos (Or.inr c)]; rfl, f1, f2⟩
        · exact ⟨_, by simp (disch := omega) only [fX0_bought_L38_b, fX0_bought_L114, nL, nI_add, nJ_mul, nJ_div, nJ_mod, nI_leI, nI_ltI, nI_eq, Option.bind_some, Option.bind_none, Nat.one_ne_zero, Nat.zero_ne_one, Nat.zero_add, Nat.add_zero, if_true, if_false, not_true_eq_false, not_false_eq_true, gx2 X hl, gl_I G, RU.f2, ef, Nat.le_refl, enO_s, e2, c, dx X, e3, xr_s] <;> rfl, U, N, by rw [if_neg (by simp [c])]; rfl, f1, f2⟩
  obtain ⟨t, a1, I', L', rfl, a2⟩ := this
  exact ⟨I', L', a1, a2⟩
theorem J_bought (J : jK q I L A T sM) (v w : Int32) : jO q I L T sM (fX0_bought 64 v w) (fX3_bought 136 v w) := by
  obtain ⟨K, B, V⟩ := id J
  obtain ⟨M, RM, hTM, hsM, W, h24⟩ := id K
  have X := B.1
  have w2 := W.1.2.2.1
  have x1 := bL_isPerson B v
  have m1 := kE_isPerson (L := L) K v
  have x2 := xin_lit (v := w) (lo := 0) (hi := 1) (l := 0) (k := 1) (by decide +kernel) (by decide +kernel) (hw q I L)
  have m2 := in_lit (v := w) (lo := 0) (hi := 1) (l := 0) (k := 1) (by decide +kernel) (by decide +kernel) (hw q I L)
  cases c : inB v (lA A 1 2)
  · exact jO_same J (r := -(nI 1)) (by simp (disch := omega) only [fX0_bought, nL, nI_add, nJ_mul, nJ_div, nJ_mod, nI_leI, nI_ltI, nI_eq, Option.bind_some, Option.bind_none, Nat.one_ne_zero, Nat.zero_ne_one, Nat.zero_add, Nat.add_zero, if_true, if_false, not_true_eq_false, not_false_eq_true, dx X, x1, c, Bool.false_eq_true]) (by simp (disch := omega) only [fX3_bought, nL, nI_add, nJ_mul, nJ_div, nJ_mod, nI_leI, nI_ltI, nI_eq, Option.bind_some, Option.bind_none, Nat.one_ne_zero, Nat.zero_ne_one, Nat.zero_add, Nat.add_zero, if_true, if_false, not_true_eq_false, not_false_eq_true, dm M, m1, c, Bool.false_eq_true])
  · cases c2 : inR w 0 1
    · exact jO_same J (r := -(nI 1)) (by simp (disch := omega) only [fX0_bought, nL, nI_add, nJ_mul, nJ_div, nJ_mod, nI_leI, nI_ltI, nI_eq, Option.bind_some, Option.bind_none, Nat.one_ne_zero, Nat.zero_ne_one, Nat.zero_add, Nat.add_zero, if_true, if_false, not_true_eq_false, not_false_eq_true, dx X, x1, c, x2, c2, Bool.false_eq_true]) (by simp (disch := omega) only [fX3_bought, nL, nI_add, nJ_mul, nJ_div, nJ_mod, nI_leI, nI_ltI, nI_eq, Option.bind_some, Option.bind_none, Nat.one_ne_zero, Nat.zero_ne_one, Nat.zero_add, Nat.add_zero, if_true, if_false, not_true_eq_false, not_false_eq_true, dm M, m1, c, m2, c2, Bool.false_eq_true])
    · obtain ⟨p, hp, rfl⟩ := inB_of c (by omega)
      have h0 := B.pos (j := 2) (by decide) (by omega)
      obtain ⟨KB, hl⟩ := B.K h0
      obtain ⟨I2, L2, b1, b2, b3, b4⟩ := bK_copies (L := L) KB X.spare (by decide) (by decide)
      have KB2 := KB.off (g' := 80) (by decide) (by decide) b2 b3
      obtain ⟨I3, L3, d1, d2, d3⟩ := bK_by38 (L := L2) KB2 hl ⟨A, b4.2.2.1.S, fun _ _ _ => rfl, rfl⟩ hp w
      have KB3 := KB2.off (g' := 80) (by decide) (by decide) d2 d3
      have fX : frX I I3 := (b2.X (Or.inr rfl)).tr (d2.X (Or.inr rfl))
      have fL : frXL L L3 := (b3.X (Or.inr rfl)).tr (d3.X (Or.inr rfl))
      have K3 := K.X fX
      obtain ⟨J2, f1, f2, f3, f4, f5, f6⟩ := kE_keepsAll (L := L3) K3
      obtain ⟨J3, g1, g2, g3⟩ := kE_by35 (L := L3) f6 f5 hp w
      have m1 := kE_isPerson (L := L3) K3 (nI p)
      have m2 := in_lit (v := w) (lo := 0) (hi := 1) (l := 0) (k := 1) (by decide +kernel) (by decide +kernel) (hw q I3 L3)
      refine jO_mk (I1 := I3) (L1 := L3) (r := if byF A T sM p (2 ^ lA A 1 2) = none ∨ w = nI 1 then enO (byF A T sM p (2 ^ lA A 1 2)) else nI (enL A (byF A T sM p (2 ^ lA A 1 2)))) ?_ fX fL (KB3.toL hl h0 (by rw [d2 64 (by omega), b2 64 (by omega)]; exact B.2.2.2.1)) V ⟨J3, L3, ?_, f2.tr g2, frTL.rf, g3⟩
      · generalize (if byF A T sM p (2 ^ lA A 1 2) = none ∨ w = nI 1 then enO (byF A T sM p (2 ^ lA A 1 2)) else nI (enL A (byF A T sM p (2 ^ lA A 1 2)))) = r at d1
        simp (disch := omega) only [fX0_bought, nL, nI_add, nJ_mul, nJ_div, nJ_mod, nI_leI, nI_ltI, nI_eq, Option.bind_some, Option.bind_none, Nat.one_ne_zero, Nat.zero_ne_one, Nat.zero_add, Nat.add_zero, if_true, if_false, not_true_eq_false, not_false_eq_true, dx X, x1, c, x2, c2, gx4 X, gx2 X hl, dg X.spare, b1, d1]
      · generalize (if byF A T sM p (2 ^ lA A 1 2) = none ∨ w = nI 1 then enO (byF A T sM p (2 ^ lA A 1 2)) else nI (enL A (byF A T sM p (2 ^ lA A 1 2)))) = r at g1
        simp (disch := omega) only [fX3_bought, nL, nI_add, nJ_mul, nJ_div, nJ_mod, nI_leI, nI_ltI, nI_eq, Option.bind_some, Option.bind_none, Nat.one_ne_zero, Nat.zero_ne_one, Nat.zero_add, Nat.add_zero, if_true, if_false, not_true_eq_false, not_false_eq_true, dm M, m1, c, m2, c2, f1, g1]
end JKK
