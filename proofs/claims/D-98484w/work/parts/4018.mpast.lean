/-! P2 MPAST: the model: rows of the past -/
section MPA
variable {q : ph_t} {I : iF} {L : lF_}
theorem mE_movesF (M : MS q) {a : Nat} {v : Int32} (hb : I 136 61 = nI 0) (ha : I 136 60 = nI a) (h : a < 1520) : fX3_moves 136 v (hw q I L) = some (v, hw q (ph_u (ph_u I 179 a v) 136 60 (nI (a + 1))) L) := by
  simp (disch := omega) only [fX3_moves, fX3_moves_L20, nL, nI_add, nJ_mul, nJ_div, nJ_mod, nI_leI, nI_ltI, nI_eq, Option.bind_some, Option.bind_none, Nat.one_ne_zero, Nat.zero_ne_one, Nat.zero_add, Nat.add_zero, if_true, if_false, not_true_eq_false, not_false_eq_true, gm_I M, sm_I M, hb, ha, gm57 M, ym179 M, pu_ne]
theorem mE_movesT (M : MS q) {a : Nat} {v : Int32} (hb : I 136 61 = nI 1) (ha : I 136 60 = nI a) (h : a < 1520) : fX3_moves 136 v (hw q I L) = some (I 179 a, hw q (ph_u (ph_u I 179 a (I 179 a)) 136 60 (nI (a + 1))) L) := by
  simp (disch := omega) only [fX3_moves, fX3_moves_L20, nL, nI_add, nJ_mul, nJ_div, nJ_mod, nI_leI, nI_ltI, nI_eq, Option.bind_some, Option.bind_none, Nat.one_ne_zero, Nat.zero_ne_one, Nat.zero_add, Nat.add_zero, if_true, if_false, not_true_eq_false, not_false_eq_true, gm_I M, sm_I M, hb, ha, gm57 M, xm179 M, ym179 M, pu_ne]
/-- a row is laid behind -/
theorem mE_rowF (M : MS q) {b n a : Nat} (hT : ph_T q b = 20) (hN : ph_N q b = n) (hb : b ≠ 179 ∧ b ≠ 136) (h61 : I 136 61 = nI 0) (h60 : I 136 60 = nI a) (h : a + n ≤ 1520) :
    ∃ I', fX3_movesRow 136 (some b) (hw q I L) = some ((), hw q I' L) ∧ (∀ c, c ≠ 179 → c ≠ 136 → I' c = I c) ∧ (∀ j, j ≠ 60 → I' 136 j = I 136 j) ∧ I' 136 60 = nI (a + n) ∧ ∀ j, I' 179 j = if a ≤ j ∧ j < a + n then I b (j - a) else I 179 j := by
  have eN : nA (hw q I L) (some b) = some (nI n) := nw_A (by omega) hN
  unfold fX3_movesRow fX3_movesRow_L2
  obtain ⟨t, h1, I', rfl, h2⟩ := whl_inv (f := fun z : Int32 × ph_t => fX3_movesRow_L2_b 136 (some b) z.1 z.2) (P := fun i z => ∃ I', z = (nI i, hw q I' L) ∧ (∀ c, c ≠ 179 → c ≠ 136 → I' c = I c) ∧ (∀ j, j ≠ 60 → I' 136 j = I 136 j) ∧ I' 136 60 = nI (a + i) ∧ ∀ j, I' 179 j = if a ≤ j ∧ j < a + i then I b (j - a) else I 179 j) (Q := fun t => ∃ I', t = ((), hw q I' L) ∧ (∀ c, c ≠ 179 → c ≠ 136 → I' c = I c) ∧ (∀ j, j ≠ 60 → I' 136 j = I 136 j) ∧ I' 136 60 = nI (a + n) ∧ ∀ j, I' 179 j = if a ≤ j ∧ j < a + n then I b (j - a) else I 179 j) n (by
      rintro i z hi ⟨I', rfl, f1, f2, f3, f4⟩
      have eN : nA (hw q I' L) (some b) = some (nI n) := nw_A (by omega) hN
      by_cases c : i < n
      · left
        have eM := mE_movesF (L := L) (v := I' b i) M (I := I') (a := a + i) (by rw [f2 61 (by decide)]; exact h61) f3 (by omega)
        have eX : xI (hw q I' L) (some b) 20 (nI i) = some (I' b i) := xw_I hT hN c (by omega)
        have eY : yI (hw q (ph_u (ph_u I' 179 (a + i) (I' b i)) 136 60 (nI (a + i + 1))) L) (some b) 20 (nI i) (I' b i) = some (hw q (ph_u (ph_u (ph_u I' 179 (a + i) (I' b i)) 136 60 (nI (a + i + 1))) b i (I' b i)) L) := yw_I hT hN c (by omega)
        refine ⟨c, _, by simp (disch := omega) only [fX3_movesRow_L2_b, nL, nI_add, nJ_mul, nJ_div, nJ_mod, nI_leI, nI_ltI, nI_eq, Option.bind_some, Option.bind_none, Nat.one_ne_zero, Nat.zero_ne_one, Nat.zero_add, Nat.add_zero, if_true, if_false, not_true_eq_false, not_false_eq_true, eN, show ¬ n ≤ i by omega, eX, dm M, eM, eY] <;> rfl, _, rfl, fun d d1 d2 => ?_, fun j hj => ?_, ?_, fun j => ?_⟩
        · by_cases e : d = b
          · subst e
            rw [ph_us (by rw [pu_ne d2, pu_ne d1]), pu_ne d2, pu_ne d1]
            exact f1 d d1 d2
          · rw [pu_ne e, pu_ne d2, pu_ne d1]
            exact f1 d d1 d2
        · rw [pu_ne (by omega), pu_nk hj, pu_ne (by decide)]
          exact f2 j hj
        · rw [pu_ne (by omega), pu_eq, Nat.add_assoc]
        · rw [pu_ne (by omega), pu_ne (by decide), pu_at, f4, f1 b (by omega) (by omega)]
          by_cases e : j = a + i
          · subst e
            rw [if_pos rfl, if_pos (by omega), Nat.add_sub_cancel_left]
          · rw [if_neg e]
            by_cases e2 : a ≤ j ∧ j < a + i
            · rw [if_pos e2, if_pos (by omega)]
            · rw [if_neg e2, if_neg (by omega)]
      · right
        have : i = n := by omega
        subst this
        exact ⟨_, by simp (disch := omega) only [fX3_movesRow_L2_b, nL, nI_add, nJ_mul, nJ_div, nJ_mod, nI_leI, nI_ltI, nI_eq, Option.bind_some, Option.bind_none, Nat.one_ne_zero, Nat.zero_ne_one, Nat.zero_add, Nat.add_zero, if_true, if_false, not_true_eq_false, not_false_eq_true, eN, Nat.le_refl, xr_s] <;> rfl, I', rfl, f1, f2, f3, f4⟩) 0 _ (by omega) ⟨I, rfl, fun _ _ _ => rfl, fun _ _ => rfl, h60, fun j => by rw [if_neg (by omega)]⟩
  exact ⟨I', h1, h2⟩
/-- a row is taken from behind -/
theorem mE_rowT (M : MS q) {b n a : Nat} (hT : ph_T q b = 20) (hN : ph_N q b = n) (hb : b ≠ 179 ∧ b ≠ 136) (h61 : I 136 61 = nI 1) (h60 : I 136 60 = nI a) (h : a + n ≤ 1520) :
    ∃ I', fX3_movesRow 136 (some b) (hw q I L) = some ((), hw q I' L) ∧ (∀ c, c ≠ b → c ≠ 136 → I' c = I c) ∧ (∀ j, j ≠ 60 → I' 136 j = I 136 j) ∧ I' 136 60 = nI (a + n) ∧ ∀ k, k < n → I' b k = I 179 (a + k) := by
  have eN : nA (hw q I L) (some b) = some (nI n) := nw_A (by omega) hN
  unfold fX3_movesRow fX3_movesRow_L2
  obtain ⟨t, h1, I', rfl, h2⟩ := whl_inv (f := fun z : Int32 × ph_t => fX3_movesRow_L2_b 136 (some b) z.1 z.2) (P := fun i z => ∃ I', z = (nI i, hw q I' L) ∧ (∀ c, c ≠ b → c ≠ 136 → I' c = I c) ∧ (∀ j, j ≠ 60 → I' 136 j = I 136 j) ∧ I' 136 60 = nI (a + i) ∧ ∀ k, k < i → k < n → I' b k = I 179 (a + k)) (Q := fun t => ∃ I', t = ((), hw q I' L) ∧ (∀ c, c ≠ b → c ≠ 136 → I' c = I c) ∧ (∀ j, j ≠ 60 → I' 136 j = I 136 j) ∧ I' 136 60 = nI (a + n) ∧ ∀ k, k < n → I' b k = I 179 (a + k)) n (by
      rintro i z hi ⟨I', rfl, f1, f2, f3, f4⟩
      have eN : nA (hw q I' L) (some b) = some (nI n) := nw_A (by omega) hN
      by_cases c : i < n
      · left
        have eM := mE_movesT (L := L) (v := I' b i) M (I := I') (a := a + i) (by rw [f2 61 (by decide)]; exact h61) f3 (by omega)
        have eX : xI (hw q I' L) (some b) 20 (nI i) = some (I' b i) := xw_I hT hN c (by omega)
        have eY : yI (hw q (ph_u (ph_u I' 179 (a + i) (I' 179 (a + i))) 136 60 (nI (a + i + 1))) L) (some b) 20 (nI i) (I' 179 (a + i)) = some (hw q (ph_u (ph_u (ph_u I' 179 (a + i) (I' 179 (a + i))) 136 60 (nI (a + i + 1))) b i (I' 179 (a + i))) L) := yw_I hT hN c (by omega)
        refine ⟨c, _, by simp (disch := omega) only [fX3_movesRow_L2_b, nL, nI_add, nJ_mul, nJ_div, nJ_mod, nI_leI, nI_ltI, nI_eq, Option.bind_some, Option.bind_none, Nat.one_ne_zero, Nat.zero_ne_one, Nat.zero_add, Nat.add_zero, if_true, if_false, not_true_eq_false, not_false_eq_true, eN, show ¬ n ≤ i by omega, eX, dm M, eM, eY] <;> rfl, _, rfl, fun d d1 d2 => ?_, fun j hj => ?_, ?_, fun k hk hkn => ?_⟩
        · rw [pu_ne d1, pu_ne d2]
          by_cases e : d = 179
          · subst e
            rw [ph_us rfl]
            exact f1 _ d1 d2
          · rw [pu_ne e]
            exact f1 d d1 d2
        · rw [pu_ne (by omega), pu_nk hj, pu_ne (by decide)]
          exact f2 j hj
        · rw [pu_ne (by omega), pu_eq, Nat.add_assoc]
        · rw [pu_at, f1 179 (by omega) (by decide)]
          by_cases e : k = i
          · rw [if_pos e, e]
          · rw [if_neg e, pu_ne (by omega), pu_ne (by omega)]
            exact f4 k (by omega) hkn
      · right
        have : i = n := by omega
        subst this
        exact ⟨_, by simp (disch := omega) only [fX3_movesRow_L2_b, nL, nI_add, nJ_mul, nJ_div, nJ_mod, nI_leI, nI_ltI, nI_eq, Option.bind_some, Option.bind_none, Nat.one_ne_zero, Nat.zero_ne_one, Nat.zero_add, Nat.add_zero, if_true, if_false, not_true_eq_false, not_false_eq_true, eN, Nat.le_refl, xr_s] <;> rfl, I', rfl, f1, f2, f3, fun k hk => f4 k hk hk⟩) 0 _ (by omega) ⟨I, rfl, fun _ _ _ => rfl, fun _ _ => rfl, h60, fun k hk => by omega⟩
  exact ⟨I', h1, h2⟩
end MPA
