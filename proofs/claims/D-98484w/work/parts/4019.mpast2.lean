/-! P2 MPAST2: the model: movesAll -/
section MP2
variable {q : ph_t} {I : iF} {L : lF_}
theorem sm_Zn (M : MS q) {f : Nat} (b : Bool) : sZ (hw q I L) (some 136) 2 f (nI (if b then 1 else 0)) = some (hw q (ph_u I 136 f (nI (if b then 1 else 0))) L) := sm_Z M (by cases b <;> decide)
theorem mE_movesAllF (M : MS q) {k : Nat} (hk : k < 20) :
    ∃ I', fX3_movesAll 136 (nI k) (nI 0) (hw q I L) = some ((), hw q I' L) ∧ (∀ c, c ≠ 179 → c ≠ 136 → I' c = I c) ∧ (∀ j, j ≠ 60 → j ≠ 61 → I' 136 j = I 136 j) ∧
      (∀ j, (j < 76 * k ∨ 76 * k + 76 ≤ j) → I' 179 j = I 179 j) ∧ I' 179 (76 * k) = I 137 6 ∧ I' 179 (76 * k + 1) = I 137 1 ∧ (∀ p, p < 6 → I' 179 (76 * k + 2 + p) = I 138 p ∧ I' 179 (76 * k + 8 + p) = I 141 p ∧ I' 179 (76 * k + 14 + p) = I 142 p) ∧ ∀ j, j < 56 → I' 179 (76 * k + 20 + j) = I 151 j := by
  generalize hJ : ph_u (ph_u I 136 60 (nI (76 * k))) 136 61 (nI 0) = J0
  have j0 : ∀ c, c ≠ 136 → J0 c = I c := fun c hc => by rw [← hJ, pu_ne hc, pu_ne hc]
  have j1 : ∀ j, j ≠ 60 → j ≠ 61 → J0 136 j = I 136 j := fun j h1 h2 => by rw [← hJ, pu_nk h2, pu_nk h1]
  have j60 : J0 136 60 = nI (76 * k) := by rw [← hJ, pu_nk (by decide), pu_eq]
  have j61 : J0 136 61 = nI 0 := by rw [← hJ, pu_eq]
  have m1 := mE_movesF (L := L) (v := J0 137 6) M (I := J0) j61 j60 (by omega)
  generalize hJ1 : ph_u (ph_u (ph_u J0 179 (76 * k) (J0 137 6)) 136 60 (nI (76 * k + 1))) 137 6 (J0 137 6) = J1
  have k0 : ∀ c, c ≠ 179 → c ≠ 136 → J1 c = J0 c := fun c h1 h2 => by
    rw [← hJ1]
    by_cases e : c = 137
    · subst e
      rw [ph_us (by rw [pu_ne (by decide), pu_ne (by decide)]), pu_ne (by decide), pu_ne (by decide)]
    · rw [pu_ne e, pu_ne h2, pu_ne h1]
  have k1 : ∀ j, j ≠ 60 → J1 136 j = J0 136 j := fun j h1 => by rw [← hJ1, pu_ne (by decide), pu_nk h1, pu_ne (by decide)]
  have k60 : J1 136 60 = nI (76 * k + 1) := by rw [← hJ1, pu_ne (by decide), pu_eq]
  have k9 : ∀ j, J1 179 j = if j = 76 * k then I 137 6 else I 179 j := fun j => by
    rw [← hJ1, pu_ne (by decide), pu_ne (by decide), pu_at, j0 137 (by decide), j0 179 (by decide)]
  have m2 := mE_movesF (L := L) (v := J1 137 1) M (I := J1) (by rw [k1 61 (by decide), j61]) k60 (by omega)
  generalize hJ2 : ph_u (ph_u (ph_u J1 179 (76 * k + 1) (J1 137 1)) 136 60 (nI (76 * k + 1 + 1))) 137 1 (J1 137 1) = J2
  have l0 : ∀ c, c ≠ 179 → c ≠ 136 → J2 c = I c := fun c h1 h2 => by
    rw [← j0 c h2, ← k0 c h1 h2, ← hJ2]
    by_cases e : c = 137
    · subst e
      rw [ph_us (by rw [pu_ne (by decide), pu_ne (by decide)]), pu_ne (by decide), pu_ne (by decide)]
    · rw [pu_ne e, pu_ne h2, pu_ne h1]
  have l1 : ∀ j, j ≠ 60 → J2 136 j = J0 136 j := fun j h1 => by rw [← k1 j h1, ← hJ2, pu_ne (by decide), pu_nk h1, pu_ne (by decide)]
  have l60 : J2 136 60 = nI (76 * k + 2) := by rw [← hJ2, pu_ne (by decide), pu_eq]
  have l9 : ∀ j, J2 179 j = if j = 76 * k + 1 then I 137 1 else if j = 76 * k then I 137 6 else I 179 j := fun j => by
    rw [← hJ2, pu_ne (by decide), pu_ne (by decide), pu_at, k9, k0 137 (by decide) (by decide), j0 137 (by decide)]
  obtain ⟨J3, r3, a3, b3, c3, d3⟩ := mE_rowF (L := L) (I := J2) M (b := 138) (n := 6) (a := 76 * k + 2) (mT M (by decide)) (mN M (by decide)) (by decide) (by rw [l1 61 (by decide), j61]) l60 (by omega)
  obtain ⟨J4, r4, a4, b4, c4, d4⟩ := mE_rowF (L := L) (I := J3) M (b := 141) (n := 6) (a := 76 * k + 2 + 6) (mT M (by decide)) (mN M (by decide)) (by decide) (by rw [b3 61 (by decide), l1 61 (by decide), j61]) c3 (by omega)
  obtain ⟨J5, r5, a5, b5, c5, d5⟩ := mE_rowF (L := L) (I := J4) M (b := 142) (n := 6) (a := 76 * k + 2 + 6 + 6) (mT M (by decide)) (mN M (by decide)) (by decide) (by rw [b4 61 (by decide), b3 61 (by decide), l1 61 (by decide), j61]) c4 (by omega)
  obtain ⟨J6, r6, a6, b6, c6, d6⟩ := mE_rowF (L := L) (I := J5) M (b := 151) (n := 56) (a := 76 * k + 2 + 6 + 6 + 6) (mT M (by decide)) (mN M (by decide)) (by decide) (by rw [b5 61 (by decide), b4 61 (by decide), b3 61 (by decide), l1 61 (by decide), j61]) c5 (by omega)
  have i3 : J2 138 = I 138 := l0 _ (by decide) (by decide)
  have i4 : J3 141 = I 141 := (a3 _ (by decide) (by decide)).trans (l0 _ (by decide) (by decide))
  have i5 : J4 142 = I 142 := ((a4 _ (by decide) (by decide)).trans (a3 _ (by decide) (by decide))).trans (l0 _ (by decide) (by decide))
  have i6 : J5 151 = I 151 := (((a5 _ (by decide) (by decide)).trans (a4 _ (by decide) (by decide))).trans (a3 _ (by decide) (by decide))).trans (l0 _ (by decide) (by decide))
  have key : ∀ j, J6 179 j = if 76 * k + 20 ≤ j ∧ j < 76 * k + 76 then I 151 (j - (76 * k + 20)) else if 76 * k + 14 ≤ j ∧ j < 76 * k + 20 then I 142 (j - (76 * k + 14)) else if 76 * k + 8 ≤ j ∧ j < 76 * k + 14 then I 141 (j - (76 * k + 8)) else if 76 * k + 2 ≤ j ∧ j < 76 * k + 8 then I 138 (j - (76 * k + 2)) else if j = 76 * k + 1 then I 137 1 else if j = 76 * k then I 137 6 else I 179 j := fun j => by
    rw [d6, d5, d4, d3, l9, i3, i4, i5, i6]
  refine ⟨J6, ?_, fun c h1 h2 => ((((a6 c h1 h2).trans (a5 c h1 h2)).trans (a4 c h1 h2)).trans (a3 c h1 h2)).trans (l0 c h1 h2), fun j h1 h2 => ((((b6 j h1).trans (b5 j h1)).trans (b4 j h1)).trans (b3 j h1)).trans ((l1 j h1).trans (j1 j h1 h2)), fun j hj => ?_, ?_, ?_, fun p hp => ⟨?_, ?_, ?_⟩, fun j hj => ?_⟩
  · have z := sm_Zn (I := ph_u I 136 60 (nI (76 * k))) (L := L) M (f := 61) false
    simp only [Bool.false_eq_true, if_false, hJ] at z
    simp (disch := omega) only [fX3_movesAll, nL, nI_add, nJ_mul, nJ_div, nJ_mod, nI_leI, nI_ltI, nI_eq, Option.bind_some, Option.bind_none, Nat.one_ne_zero, Nat.zero_ne_one, Nat.zero_add, Nat.add_zero, if_true, if_false, not_true_eq_false, not_false_eq_true, sm_I M, z, gm1 M, gm2 M, gm5 M, gm6 M, gm15 M, xm137 M, ym137 M, dm M, m1, hJ1, m2, hJ2, r3, r4, r5, r6]
  · rw [key, if_neg (by omega), if_neg (by omega), if_neg (by omega), if_neg (by omega), if_neg (by omega), if_neg (by omega)]
  · rw [key, if_neg (by omega), if_neg (by omega), if_neg (by omega), if_neg (by omega), if_neg (by omega), if_pos rfl]
  · rw [key, if_neg (by omega), if_neg (by omega), if_neg (by omega), if_neg (by omega), if_pos rfl]
  · rw [key, if_neg (by omega), if_neg (by omega), if_neg (by omega), if_pos (by omega)]
    congr 1
    omega
  · rw [key, if_neg (by omega), if_neg (by omega), if_pos (by omega)]
    congr 1
    omega
  · rw [key, if_neg (by omega), if_pos (by omega)]
    congr 1
    omega
  · rw [key, if_pos (by omega)]
    congr 1
    omega
end MP2
