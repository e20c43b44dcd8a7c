/-! P2 MLAND: the model with a land, what it asks of it -/
def mK (q : ph_t) (I : iF) (A : ld_t) (T : Nat → Nat → Bool) (sM : Nat) : Prop := MS q ∧ mlR (mlL I) A ∧ tbR (I 171) sM T ∧ I 136 32 = nI sM ∧ lW A ∧ sM ≤ 24
theorem in_e (a b c : Int64) (g : ph_t) : fX3_in a b c g = some (nI (if b ≤ a ∧ a ≤ c then 1 else 0), g) := by
  unfold fX3_in
  by_cases h1 : b ≤ a
  · have n1 : ¬ lc_ a b < 0 := by
      rw [show lc_ a b = lg_cmp a b from rfl, lg_cmp_lt]
      exact Int64.not_lt.mpr h1
    rw [if_neg n1]
    by_cases h2 : a ≤ c
    · have n2 : ¬ 0 < lc_ a c := by
        rw [show lc_ a c = lg_cmp a c from rfl, lg_cmp_gt]
        exact Int64.not_lt.mpr h2
      rw [if_neg n2, if_pos ⟨h1, h2⟩]
      rfl
    · have n2 : 0 < lc_ a c := by
        rw [show lc_ a c = lg_cmp a c from rfl, lg_cmp_gt]
        exact Int64.not_le.mp h2
      rw [if_pos n2, if_neg (fun z => h2 z.2)]
      rfl
  · have n1 : lc_ a b < 0 := by
      rw [show lc_ a b = lg_cmp a b from rfl, lg_cmp_lt]
      exact Int64.not_le.mp h1
    rw [if_pos n1, if_neg (fun z => h1 z.1)]
    rfl
/-- a place in a row, as an int says it -/
def inB (v : Int32) (n : Nat) : Bool := decide (0 ≤ v.toInt ∧ v.toInt < (n : Int))
theorem inB_of {v : Int32} {n : Nat} (h : inB v n = true) (hn : n < 2 ^ 31) : ∃ p, p < n ∧ v = nI p := by
  have h := of_decide_eq_true h
  exact vp_in_of (vp_in_iff.mpr h) hn
theorem nI_i1 {n : Nat} (h : n < 2 ^ 31) : (nI n - nI 1).toInt = (n : Int) - 1 := by
  rcases Nat.eq_zero_or_pos n with rfl | p
  · decide
  · rw [nJ_sub p, nI_toInt (by omega)]
    omega
theorem in_n (v : Int32) {n : Nat} (hn : n < 2 ^ 31) (g : ph_t) : fX3_in v.toInt64 0 (nI n - nI 1).toInt64 g = some (nI (if inB v n then 1 else 0), g) := by
  rw [in_e]
  have e : ((0 : Int64) ≤ v.toInt64 ∧ v.toInt64 ≤ (nI n - nI 1).toInt64) ↔ (0 ≤ v.toInt ∧ v.toInt < (n : Int)) := by
    rw [Int64.le_iff_toInt_le, Int64.le_iff_toInt_le, Int32.toInt_toInt64, Int32.toInt_toInt64, nI_i1 hn]
    simp
    omega
  unfold inB
  by_cases c : 0 ≤ v.toInt ∧ v.toInt < (n : Int)
  · rw [if_pos (e.mpr c), decide_eq_true c]
    rfl
  · rw [if_neg (fun z => c (e.mp z)), decide_eq_false c]
    rfl
section MLN
variable {q : ph_t} {I : iF} {L : lF_} {A : ld_t} {T : Nat → Nat → Bool} {sM : Nat}
theorem rm1 (R : mlR (mlL I) A) {j : Nat} (h : j < 9) : I 137 j = nI (lA A 1 j) := R.1 1 j (by simpa [rnF] using h)
theorem rm2 (R : mlR (mlL I) A) {p : Nat} (h : p < lA A 1 2) : I 138 p = nI (lA A 2 p) := R.1 2 p (by simpa [rnF] using h)
theorem rm3 (R : mlR (mlL I) A) {p : Nat} (h : p < lA A 1 2) : I 139 p = nI (lA A 3 p) := R.1 3 p (by simpa [rnF] using h)
theorem rm4 (R : mlR (mlL I) A) {p : Nat} (h : p < lA A 1 2) : I 140 p = nI (lA A 4 p) := R.1 4 p (by simpa [rnF] using h)
theorem rm5 (R : mlR (mlL I) A) {p : Nat} (h : p < lA A 1 2) : I 141 p = nI (lA A 5 p) := R.1 5 p (by simpa [rnF] using h)
theorem rm6 (R : mlR (mlL I) A) {p : Nat} (h : p < lA A 1 2) : I 142 p = nI (lA A 6 p) := R.1 6 p (by simpa [rnF] using h)
theorem rm7 (R : mlR (mlL I) A) {p : Nat} (h : p < lA A 1 3) : I 143 p = nI (lA A 7 p) := R.1 7 p (by simpa [rnF] using h)
theorem rm8 (R : mlR (mlL I) A) {p : Nat} (h : p < lA A 1 4) : I 144 p = nI (lA A 8 p) := R.1 8 p (by simpa [rnF] using h)
theorem rm9 (R : mlR (mlL I) A) {p : Nat} (h : p < lA A 1 4) : I 145 p = nI (lA A 9 p) := R.1 9 p (by simpa [rnF] using h)
theorem rm10 (R : mlR (mlL I) A) {p : Nat} (h : p < lA A 1 4) : I 146 p = nI (lA A 10 p) := R.1 10 p (by simpa [rnF] using h)
theorem rm11 (R : mlR (mlL I) A) {p : Nat} (h : p < lA A 1 5) : I 147 p = nI (lA A 11 p) := R.1 11 p (by simpa [rnF] using h)
theorem rm12 (R : mlR (mlL I) A) {p : Nat} (h : p < lA A 1 5) : I 148 p = nI (lA A 12 p) := R.1 12 p (by simpa [rnF] using h)
theorem rm13 (R : mlR (mlL I) A) {p : Nat} (h : p < lA A 1 7) : I 149 p = nI (lA A 13 p) := R.1 13 p (by simpa [rnF] using h)
theorem rm14 (R : mlR (mlL I) A) {p : Nat} (h : p < lA A 1 7) : I 150 p = nI (lA A 14 p) := R.1 14 p (by simpa [rnF] using h)
theorem rmU (R : mlR (mlL I) A) : I 136 59 = nI (lA A 0 0) := R.1 0 0 (by simp [rnF])
theorem kE_isLand (K : mK q I A T sM) : fX3_isLand 136 (hw q I L) = some (nI (if 0 < lA A 1 0 then 1 else 0), hw q I L) := by
  obtain ⟨M, R, hT, hs, hW, h24⟩ := K
  have h0 := hW.1.1
  by_cases c : 0 < lA A 1 0
  · simp (disch := omega) only [fX3_isLand, nL, nI_add, nJ_mul, nJ_div, nJ_mod, nI_leI, nI_ltI, nI_eq, Option.bind_some, Option.bind_none, Nat.one_ne_zero, Nat.zero_ne_one, Nat.zero_add, Nat.add_zero, if_true, if_false, not_true_eq_false, not_false_eq_true, gm1 M, xm137 M, rm1 R, show ¬ lA A 1 0 ≤ 0 by omega, c, rz_1]
  · simp (disch := omega) only [fX3_isLand, nL, nI_add, nJ_mul, nJ_div, nJ_mod, nI_leI, nI_ltI, nI_eq, Option.bind_some, Option.bind_none, Nat.one_ne_zero, Nat.zero_ne_one, Nat.zero_add, Nat.add_zero, if_true, if_false, not_true_eq_false, not_false_eq_true, gm1 M, xm137 M, rm1 R, show lA A 1 0 ≤ 0 by omega, c, rz_0]
theorem kE_isPerson (K : mK q I A T sM) (v : Int32) : fX3_isPerson 136 v (hw q I L) = some (nI (if inB v (lA A 1 2) then 1 else 0), hw q I L) := by
  obtain ⟨M, R, hT, hs, hW, h24⟩ := K
  have h0 := hW.1.2.2.1
  have e := in_n v (n := lA A 1 2) (by omega) (hw q I L)
  simp (disch := omega) only [fX3_isPerson, nL, nI_add, nJ_mul, nJ_div, nJ_mod, nI_leI, nI_ltI, nI_eq, Option.bind_some, Option.bind_none, Nat.one_ne_zero, Nat.zero_ne_one, Nat.zero_add, Nat.add_zero, if_true, if_false, not_true_eq_false, not_false_eq_true, gm1 M, xm137 M, rm1 R, e, rz_n]
theorem kE_isPlace (K : mK q I A T sM) (v : Int32) : fX3_isPlace 136 v (hw q I L) = some (nI (if inB v (lA A 1 3) then 1 else 0), hw q I L) := by
  obtain ⟨M, R, hT, hs, hW, h24⟩ := K
  have h0 := hW.1.2.2.2.1
  have e := in_n v (n := lA A 1 3) (by omega) (hw q I L)
  simp (disch := omega) only [fX3_isPlace, nL, nI_add, nJ_mul, nJ_div, nJ_mod, nI_leI, nI_ltI, nI_eq, Option.bind_some, Option.bind_none, Nat.one_ne_zero, Nat.zero_ne_one, Nat.zero_add, Nat.add_zero, if_true, if_false, not_true_eq_false, not_false_eq_true, gm1 M, xm137 M, rm1 R, e, rz_n]
theorem kE_isFact (K : mK q I A T sM) (v : Int32) : fX3_isFact 136 v (hw q I L) = some (nI (if inB v (lA A 1 0) then 1 else 0), hw q I L) := by
  obtain ⟨M, R, hT, hs, hW, h24⟩ := K
  have h0 := hW.1.1
  have e := in_n v (n := lA A 1 0) (by omega) (hw q I L)
  simp (disch := omega) only [fX3_isFact, nL, nI_add, nJ_mul, nJ_div, nJ_mod, nI_leI, nI_ltI, nI_eq, Option.bind_some, Option.bind_none, Nat.one_ne_zero, Nat.zero_ne_one, Nat.zero_add, Nat.add_zero, if_true, if_false, not_true_eq_false, not_false_eq_true, gm1 M, xm137 M, rm1 R, e, rz_n]
theorem kE_isSaying (K : mK q I A T sM) (v : Int32) : fX3_isSaying 136 v (hw q I L) = some (nI (if inB v sM then 1 else 0), hw q I L) := by
  obtain ⟨M, R, hT, hs, hW, h24⟩ := K
  have e := in_n v (n := sM) (by omega) (hw q I L)
  simp (disch := omega) only [fX3_isSaying, nL, nI_add, nJ_mul, nJ_div, nJ_mod, nI_leI, nI_ltI, nI_eq, Option.bind_some, Option.bind_none, Nat.one_ne_zero, Nat.zero_ne_one, Nat.zero_add, Nat.add_zero, if_true, if_false, not_true_eq_false, not_false_eq_true, gm_I M, hs, e, rz_n]
theorem kE_worlds (K : mK q I A T sM) : fX3_worlds 136 (hw q I L) = some (nI (2 ^ lA A 1 0), hw q I L) := by
  obtain ⟨M, R, hT, hs, hW, h24⟩ := K
  have h0 := hW.1.1
  have e := nJ_shl (k := lA A 1 0) (by omega)
  simp (disch := omega) only [fX3_worlds, nL, nI_add, nJ_mul, nJ_div, nJ_mod, nI_leI, nI_ltI, nI_eq, Option.bind_some, Option.bind_none, Nat.one_ne_zero, Nat.zero_ne_one, Nat.zero_add, Nat.add_zero, if_true, if_false, not_true_eq_false, not_false_eq_true, gm1 M, xm137 M, rm1 R, ← e]
end MLN
