/-! P2 MASK: the model's further questions -/
def anyB (p : Nat → Bool) : Nat → Bool
  | 0 => false
  | n + 1 => anyB p n || p n
def allB (p : Nat → Bool) : Nat → Bool
  | 0 => true
  | n + 1 => allB p n && p n
theorem anyB_lt {p : Nat → Bool} {i : Nat} (h : p i = true) : ∀ {n : Nat}, i < n → anyB p n = true
  | n + 1, hi => by
    by_cases e : i = n
    · subst e; simp [anyB, h]
    · simp [anyB, anyB_lt h (show i < n by omega)]
theorem anyB_iff {p : Nat → Bool} : ∀ {n : Nat}, anyB p n = true ↔ ∃ i, i < n ∧ p i = true
  | 0 => by simp [anyB]
  | n + 1 => by
    constructor
    · intro h
      simp only [anyB, Bool.or_eq_true] at h
      rcases h with h | h
      · obtain ⟨i, h1, h2⟩ := anyB_iff.mp h
        exact ⟨i, by omega, h2⟩
      · exact ⟨n, by omega, h⟩
    · rintro ⟨i, h1, h2⟩
      exact anyB_lt h2 h1
theorem allB_iff {p : Nat → Bool} : ∀ {n : Nat}, allB p n = true ↔ ∀ i, i < n → p i = true
  | 0 => by simp [allB]
  | n + 1 => by
    simp only [allB, Bool.and_eq_true, allB_iff (n := n)]
    constructor
    · rintro ⟨h1, h2⟩ i hi
      by_cases e : i = n
      · subst e; exact h2
      · exact h1 i (by omega)
    · exact fun h => ⟨fun i hi => h i (by omega), h n (by omega)⟩
theorem whl_any {S T : Type} {f : S → Option (S ⊕ T)} (st : Nat → S) (p : Nat → Bool) (n : Nat) {t0 t1 : T} {s : S} (h0 : s = st 0) (step : ∀ i, i < n → p i = false → f (st i) = some (.inl (st (i + 1)))) (hit : ∀ i, i < n → p i = true → f (st i) = some (.inr t1)) (fin : f (st n) = some (.inr t0)) : whl f s = some (if anyB p n then t1 else t0) := by
  subst h0
  by_cases c : anyB p n = true
  · rw [if_pos c]
    obtain ⟨i, h1, h2⟩ := anyB_iff.mp c
    -- the first
    have key : ∀ i, i < n → p i = true → ∃ j, j < n ∧ p j = true ∧ ∀ k, k < j → p k = false := by
      intro i
      induction i using Nat.strongRecOn with
      | ind i ih =>
        intro hi hp
        by_cases q : ∃ k, k < i ∧ p k = true
        · obtain ⟨k, k1, k2⟩ := q
          exact ih k k1 (by omega) k2
        · refine ⟨i, hi, hp, fun k hk => ?_⟩
          cases e : p k with
          | false => rfl
          | true => exact absurd ⟨k, hk, e⟩ q
    obtain ⟨j, j1, j2, j3⟩ := key i h1 h2
    rw [whl_to st j (fun k hk => step k (by omega) (j3 k hk))]
    exact whl_end (hit j j1 j2)
  · rw [if_neg c]
    rw [whl_to st n (fun k hk => step k hk (by
      cases e : p k with
      | false => rfl
      | true => exact absurd (anyB_lt e hk) c))]
    exact whl_end fin
def a_gets (A : ld_t) (T : Nat → Nat → Bool) (p s : Nat) : Bool := decide (lA A 6 p = 0) && (kn_ (lH A p) (T s) && (T s (lA A 1 1) && (!kn_ (lH A 6) (T s) && decide (lA A 3 p ≤ gn_ (lH A 6) (T s)))))
def a_can (A : ld_t) (T : Nat → Nat → Bool) (sM p : Nat) : Bool := anyB (a_gets A T p) sM
theorem gn_le {H B : Nat → Bool} : gn_ H B ≤ 256 := fb_ct_le _ _
theorem p2_8 {n : Nat} (h : n ≤ 8) : 2 ^ n ≤ 256 := Nat.pow_le_pow_right (by decide) h
theorem rz_b {b : Bool} {h : ph_t} {v : Int32} (e : v = nI (if b then 1 else 0)) : rz_ v h = some (nI (if b then 1 else 0), h) := by
  rw [e, rz_n]
section MQ_
variable {q : ph_t} {I : iF} {L : lF_} {A : ld_t} {T : Nat → Nat → Bool} {sM : Nat}
theorem kE_getsOver (K : mK q I A T sM) {p s : Nat} (hp : p < lA A 1 2) (hs : s < sM) : fX3_getsOver 136 (nI p) (nI s) (hw q I L) = some (nI (if a_gets A T p s then 1 else 0), hw q I L) := by
  have K0 := K
  obtain ⟨M, R, hT, hsM, hW, h24⟩ := K
  have h6 := hW.1.2.2.1
  have hso := hW.1.2.1
  have h8 := p2_8 hW.1.1
  obtain ⟨w1, w2, w3, w4, w5, w6⟩ := hW.2.1 p hp
  have hg := gn_le (H := lH A 6) (B := T s)
  have e1 := mE_isKnown (L := L) M R hT hW (Or.inl hp) hs h24
  have e2 := mE_isKnown (L := L) M R hT hW (who := 6) (Or.inr rfl) hs h24
  have e3 := mE_isSo (I := I) (L := L) M hT hs (w := lA A 1 1) (by omega) h24
  have e4 := mE_gainOf (L := L) M R hT hW hs h24
  unfold a_gets
  by_cases c1 : lA A 6 p = 0
  · cases c2 : kn_ (lH A p) (T s)
    · simp (disch := omega) only [fX3_getsOver, nL, nI_add, nJ_mul, nJ_div, nJ_mod, nI_leI, nI_ltI, nI_eq, Option.bind_some, Option.bind_none, Nat.one_ne_zero, Nat.zero_ne_one, Nat.zero_add, Nat.add_zero, if_true, if_false, not_true_eq_false, not_false_eq_true, gm6 M, xm142 M, rm6 R, c1, dm M, e1, c2, Bool.false_eq_true, rz_0, decide_true, Bool.true_and, Bool.false_and]
    · cases c3 : T s (lA A 1 1)
      · simp (disch := omega) only [fX3_getsOver, nL, nI_add, nJ_mul, nJ_div, nJ_mod, nI_leI, nI_ltI, nI_eq, Option.bind_some, Option.bind_none, Nat.one_ne_zero, Nat.zero_ne_one, Nat.zero_add, Nat.add_zero, if_true, if_false, not_true_eq_false, not_false_eq_true, gm6 M, xm142 M, rm6 R, c1, dm M, e1, c2, gm1 M, xm137 M, rm1 R, e3, c3, Bool.false_eq_true, rz_0, decide_true, Bool.true_and, Bool.false_and]
      · cases c4 : kn_ (lH A 6) (T s)
        · by_cases c5 : lA A 3 p ≤ gn_ (lH A 6) (T s)
          · simp (disch := omega) only [fX3_getsOver, nL, nI_add, nJ_mul, nJ_div, nJ_mod, nI_leI, nI_ltI, nI_eq, Option.bind_some, Option.bind_none, Nat.one_ne_zero, Nat.zero_ne_one, Nat.zero_add, Nat.add_zero, if_true, if_false, not_true_eq_false, not_false_eq_true, gm6 M, xm142 M, rm6 R, c1, dm M, e1, c2, gm1 M, xm137 M, rm1 R, e3, c3, e2, c4, e4, gm3 M, xm139 M, rm3 R, c5, show ¬ gn_ (lH A 6) (T s) < lA A 3 p by omega, Bool.false_eq_true, rz_1, decide_true, Bool.true_and, Bool.false_and, Bool.not_false]
          · simp (disch := omega) only [fX3_getsOver, nL, nI_add, nJ_mul, nJ_div, nJ_mod, nI_leI, nI_ltI, nI_eq, Option.bind_some, Option.bind_none, Nat.one_ne_zero, Nat.zero_ne_one, Nat.zero_add, Nat.add_zero, if_true, if_false, not_true_eq_false, not_false_eq_true, gm6 M, xm142 M, rm6 R, c1, dm M, e1, c2, gm1 M, xm137 M, rm1 R, e3, c3, e2, c4, e4, gm3 M, xm139 M, rm3 R, c5, show gn_ (lH A 6) (T s) < lA A 3 p by omega, Bool.false_eq_true, rz_0, decide_true, decide_false, Bool.true_and, Bool.false_and, Bool.not_false]
        · simp (disch := omega) only [fX3_getsOver, nL, nI_add, nJ_mul, nJ_div, nJ_mod, nI_leI, nI_ltI, nI_eq, Option.bind_some, Option.bind_none, Nat.one_ne_zero, Nat.zero_ne_one, Nat.zero_add, Nat.add_zero, if_true, if_false, not_true_eq_false, not_false_eq_true, gm6 M, xm142 M, rm6 R, c1, dm M, e1, c2, gm1 M, xm137 M, rm1 R, e3, c3, e2, c4, Bool.false_eq_true, rz_0, decide_true, Bool.true_and, Bool.false_and, Bool.not_true]
  · simp (disch := omega) only [fX3_getsOver, nL, nI_add, nJ_mul, nJ_div, nJ_mod, nI_leI, nI_ltI, nI_eq, Option.bind_some, Option.bind_none, Nat.one_ne_zero, Nat.zero_ne_one, Nat.zero_add, Nat.add_zero, if_true, if_false, not_true_eq_false, not_false_eq_true, gm6 M, xm142 M, rm6 R, c1, rz_0, decide_false, Bool.false_and, Bool.false_eq_true]
theorem kE_can (K : mK q I A T sM) {p : Nat} (hp : p < lA A 1 2) : fX3_canGetOver 136 (nI p) (hw q I L) = some (nI (if a_can A T sM p then 1 else 0), hw q I L) := by
  obtain ⟨M, R, hT, hsM, hW, h24⟩ := id K
  unfold fX3_canGetOver fX3_canGetOver_L2
  have := whl_any (f := fun s_1 : Int32 × ph_t => fX3_canGetOver_L2_b 136 (nI p) s_1.1 s_1.2) (fun i => (nI i, hw q I L)) (a_gets A T p) sM (t0 := (nI 0, hw q I L)) (t1 := (nI 1, hw q I L)) rfl
    (fun i hi c => by simp (disch := omega) only [fX3_canGetOver_L2_b, nL, nI_add, nJ_mul, nJ_div, nJ_mod, nI_leI, nI_ltI, nI_eq, Option.bind_some, Option.bind_none, Nat.one_ne_zero, Nat.zero_ne_one, Nat.zero_add, Nat.add_zero, if_true, if_false, not_true_eq_false, not_false_eq_true, gm_I M, hsM, dm M, kE_getsOver K hp hi, c, show ¬ sM ≤ i by omega, Bool.false_eq_true])
    (fun i hi c => by simp (disch := omega) only [fX3_canGetOver_L2_b, nL, nI_add, nJ_mul, nJ_div, nJ_mod, nI_leI, nI_ltI, nI_eq, Option.bind_some, Option.bind_none, Nat.one_ne_zero, Nat.zero_ne_one, Nat.zero_add, Nat.add_zero, if_true, if_false, not_true_eq_false, not_false_eq_true, gm_I M, hsM, dm M, kE_getsOver K hp hi, c, show ¬ sM ≤ i by omega, rz_1, xr_s])
    (by simp (disch := omega) only [fX3_canGetOver_L2_b, nL, nI_add, nJ_mul, nJ_div, nJ_mod, nI_leI, nI_ltI, nI_eq, Option.bind_some, Option.bind_none, Nat.one_ne_zero, Nat.zero_ne_one, Nat.zero_add, Nat.add_zero, if_true, if_false, not_true_eq_false, not_false_eq_true, gm_I M, hsM, Nat.le_refl, rz_0, xr_s])
  rw [show (0 : Int32) = nI 0 from nJ_0, this]
  unfold a_can
  cases anyB (a_gets A T p) sM <;> rfl
end MQ_
