/-! P2 MWAYS: the model: hours between places -/
def upN (D : Nat → Nat) (j v : Nat) : Nat → Nat := fun i => if i = j then v else D i
def fw0 : Nat → Nat := fun j => if j / 6 = j % 6 then 0 else 100000
/-- a path is laid -/
def fwP (A : ld_t) (k : Nat) (D : Nat → Nat) : Nat → Nat := upN (upN D (6 * lA A 8 k + lA A 9 k) (min (lA A 10 k) (D (6 * lA A 8 k + lA A 9 k)))) (6 * lA A 9 k + lA A 8 k) (min (lA A 10 k) (D (6 * lA A 8 k + lA A 9 k)))
def fwS (m a b : Nat) (D : Nat → Nat) : Nat → Nat := upN D (6 * a + b) (min (D (6 * a + m) + D (6 * m + b)) (D (6 * a + b)))
def fwB (m a : Nat) (D : Nat → Nat) : Nat → Nat := fo_ (fun b D => fwS m a b D) D 6
def fwA (m : Nat) (D : Nat → Nat) : Nat → Nat := fo_ (fun a D => fwB m a D) D 6
def fwQ (A : ld_t) : Nat → Nat := fo_ (fwP A) fw0 (lA A 1 4)
/-- the shortest ways -/
def a_far (A : ld_t) : Nat → Nat := fo_ fwA (fwQ A) 6
/-- far's row -/
def frW (I I' : iF) (D : Nat → Nat) : Prop := (∀ c, c ≠ 178 → I' c = I c) ∧ (∀ j, j < 36 → I' 178 j = nI (D j)) ∧ ∀ j, D j ≤ 100000
theorem frW.up {I J : iF} {D : Nat → Nat} {j v : Nat} (h : frW I J D) (hv : v ≤ 100000) : frW I (ph_u J 178 j (nI v)) (upN D j v) := by
  refine ⟨fun c hc => by rw [pu_ne hc]; exact h.1 c hc, fun i hi => ?_, fun i => ?_⟩
  · rw [pu_at]
    unfold upN
    split
    · rfl
    · exact h.2.1 i hi
  · unfold upN
    split
    · exact hv
    · exact h.2.2 i
section MWA
variable {q : ph_t} {I : iF} {L : lF_} {A : ld_t} {T : Nat → Nat → Bool} {sM : Nat}
theorem mE_fw169 (M : MS q) {m a : Nat} (hm : m < 6) (ha : a < 6) {J : iF} {D : Nat → Nat} (h : frW I J D) : ∃ J', fX3_laysWays_L169 136 (nI m) (nI a) (nI 0) (hw q J L) = some (.inl (nI (a + 1), hw q J' L)) ∧ frW I J' (fwB m a D) := by
  have : ∃ t, fX3_laysWays_L169 136 (nI m) (nI a) (nI 0) (hw q J L) = some t ∧ ∃ J', t = .inl (nI (a + 1), hw q J' L) ∧ frW I J' (fwB m a D) := by
    unfold fX3_laysWays_L169
    refine whl_st (α := iF) (fun i J => (nI i, hw q J L)) (fun i J => frW I J (fo_ (fun b D => fwS m a b D) D i)) 6 (a := J) rfl h ?_ ?_
    · rintro i J hi hJ
      show ∃ b', _ ∧ frW I b' (fwS m a i (fo_ (fun b D => fwS m a b D) D i))
      generalize fo_ (fun b D => fwS m a b D) D i = E at hJ
      have h1 := hJ.2.1 (6 * a + m) (by omega)
      have h2 := hJ.2.1 (6 * m + i) (by omega)
      have h3 := hJ.2.1 (6 * a + i) (by omega)
      have b1 := hJ.2.2 (6 * a + m)
      have b2 := hJ.2.2 (6 * m + i)
      have b3 := hJ.2.2 (6 * a + i)
      by_cases c : E (6 * a + i) ≤ E (6 * a + m) + E (6 * m + i)
      · refine ⟨_, by simp (disch := omega) only [fX3_laysWays_L169_b, fX3_laysWays_L242, nm_, nL, nI_add, nJ_mul, nJ_div, nJ_mod, nI_leI, nI_ltI, nI_eq, Option.bind_some, Option.bind_none, Nat.one_ne_zero, Nat.zero_ne_one, Nat.zero_add, Nat.add_zero, if_true, if_false, not_true_eq_false, not_false_eq_true, gm56 M, xm178 M, ym178 M, h1, h2, h3, c, show ¬ 6 ≤ i by omega] <;> rfl, ?_⟩
        have := hJ.up (j := 6 * a + i) (v := min (E (6 * a + m) + E (6 * m + i)) (E (6 * a + i))) (by omega)
        rw [Nat.min_eq_right c] at this
        unfold fwS
        rw [Nat.min_eq_right c]
        exact this
      · refine ⟨_, by simp (disch := omega) only [fX3_laysWays_L169_b, fX3_laysWays_L242, nm_, nL, nI_add, nJ_mul, nJ_div, nJ_mod, nI_leI, nI_ltI, nI_eq, Option.bind_some, Option.bind_none, Nat.one_ne_zero, Nat.zero_ne_one, Nat.zero_add, Nat.add_zero, if_true, if_false, not_true_eq_false, not_false_eq_true, gm56 M, xm178 M, ym178 M, h1, h2, h3, c, show ¬ 6 ≤ i by omega] <;> rfl, ?_⟩
        have e : min (E (6 * a + m) + E (6 * m + i)) (E (6 * a + i)) = E (6 * a + m) + E (6 * m + i) := by omega
        unfold fwS
        rw [e]
        exact hJ.up (by omega)
    · rintro J hJ
      exact ⟨_, by simp (disch := omega) only [fX3_laysWays_L169_b, nL, nI_add, nJ_mul, nJ_div, nJ_mod, nI_leI, nI_ltI, nI_eq, Option.bind_some, Option.bind_none, Nat.one_ne_zero, Nat.zero_ne_one, Nat.zero_add, Nat.add_zero, if_true, if_false, not_true_eq_false, not_false_eq_true, Nat.le_refl, xr_s] <;> rfl, J, rfl, hJ⟩
  obtain ⟨t, h1, J', rfl, h2⟩ := this
  exact ⟨J', h1, h2⟩
theorem mE_fw161 (M : MS q) {m : Nat} (hm : m < 6) {J : iF} {D : Nat → Nat} (h : frW I J D) : ∃ J', fX3_laysWays_L161 136 (nI m) (nI 0) (hw q J L) = some (.inl (nI (m + 1), hw q J' L)) ∧ frW I J' (fwA m D) := by
  have : ∃ t, fX3_laysWays_L161 136 (nI m) (nI 0) (hw q J L) = some t ∧ ∃ J', t = .inl (nI (m + 1), hw q J' L) ∧ frW I J' (fwA m D) := by
    unfold fX3_laysWays_L161
    refine whl_st (α := iF) (fun i J => (nI i, hw q J L)) (fun i J => frW I J (fo_ (fun a D => fwB m a D) D i)) 6 (a := J) rfl h ?_ ?_
    · rintro i J hi hJ
      obtain ⟨J', e1, e2⟩ := mE_fw169 (L := L) M hm hi hJ
      exact ⟨J', by simp (disch := omega) only [fX3_laysWays_L161_b, nL, nI_add, nJ_mul, nJ_div, nJ_mod, nI_leI, nI_ltI, nI_eq, Option.bind_some, Option.bind_none, Nat.one_ne_zero, Nat.zero_ne_one, Nat.zero_add, Nat.add_zero, if_true, if_false, not_true_eq_false, not_false_eq_true, e1, show ¬ 6 ≤ i by omega], e2⟩
    · rintro J hJ
      exact ⟨_, by simp (disch := omega) only [fX3_laysWays_L161_b, nL, nI_add, nJ_mul, nJ_div, nJ_mod, nI_leI, nI_ltI, nI_eq, Option.bind_some, Option.bind_none, Nat.one_ne_zero, Nat.zero_ne_one, Nat.zero_add, Nat.add_zero, if_true, if_false, not_true_eq_false, not_false_eq_true, Nat.le_refl, xr_s] <;> rfl, J, rfl, hJ⟩
  obtain ⟨t, h1, J', rfl, h2⟩ := this
  exact ⟨J', h1, h2⟩
theorem mE_fw153 (M : MS q) {J : iF} {D : Nat → Nat} (h : frW I J D) : ∃ J', fX3_laysWays_L153 136 (nI 0) (hw q J L) = some ((), hw q J' L) ∧ frW I J' (fo_ fwA D 6) := by
  have : ∃ t, fX3_laysWays_L153 136 (nI 0) (hw q J L) = some t ∧ ∃ J', t = ((), hw q J' L) ∧ frW I J' (fo_ fwA D 6) := by
    unfold fX3_laysWays_L153
    refine whl_st (α := iF) (fun i J => (nI i, hw q J L)) (fun i J => frW I J (fo_ fwA D i)) 6 (a := J) rfl h ?_ ?_
    · rintro i J hi hJ
      obtain ⟨J', e1, e2⟩ := mE_fw161 (L := L) M hi hJ
      exact ⟨J', by simp (disch := omega) only [fX3_laysWays_L153_b, nL, nI_add, nJ_mul, nJ_div, nJ_mod, nI_leI, nI_ltI, nI_eq, Option.bind_some, Option.bind_none, Nat.one_ne_zero, Nat.zero_ne_one, Nat.zero_add, Nat.add_zero, if_true, if_false, not_true_eq_false, not_false_eq_true, e1, show ¬ 6 ≤ i by omega], e2⟩
    · rintro J hJ
      exact ⟨_, by simp (disch := omega) only [fX3_laysWays_L153_b, nL, nI_add, nJ_mul, nJ_div, nJ_mod, nI_leI, nI_ltI, nI_eq, Option.bind_some, Option.bind_none, Nat.one_ne_zero, Nat.zero_ne_one, Nat.zero_add, Nat.add_zero, if_true, if_false, not_true_eq_false, not_false_eq_true, Nat.le_refl, xr_s] <;> rfl, J, rfl, hJ⟩
  obtain ⟨t, h1, J', rfl, h2⟩ := this
  exact ⟨J', h1, h2⟩
theorem mE_fw53 (K : mK q I A T sM) {J : iF} (h : frW I J fw0) : ∃ J', fX3_laysWays_L53 136 (nI 0) (hw q J L) = some ((), hw q J' L) ∧ frW I J' (a_far A) := by
  obtain ⟨M, R, hT, hsM, hW, h24⟩ := K
  have h4 := hW.1.2.2.2.2.1
  have h3 := hW.1.2.2.2.1
  have : ∃ t, fX3_laysWays_L53 136 (nI 0) (hw q J L) = some t ∧ ∃ J', t = ((), hw q J' L) ∧ frW I J' (a_far A) := by
    unfold fX3_laysWays_L53
    refine whl_st (α := iF) (fun i J => (nI i, hw q J L)) (fun i J => frW I J (fo_ (fwP A) fw0 i)) (lA A 1 4) (a := J) rfl h ?_ ?_
    · rintro i J hi hJ
      show ∃ b', _ ∧ frW I b' (fwP A i (fo_ (fwP A) fw0 i))
      generalize fo_ (fwP A) fw0 i = E at hJ
      obtain ⟨w1, w2, w3, w4⟩ := hW.2.2.2.1 i hi
      have e1 : J 137 4 = nI (lA A 1 4) := by rw [hJ.1 137 (by decide)]; exact rm1 R (by decide)
      have e8 : J 144 i = nI (lA A 8 i) := by rw [hJ.1 144 (by decide)]; exact rm8 R hi
      have e9 : J 145 i = nI (lA A 9 i) := by rw [hJ.1 145 (by decide)]; exact rm9 R hi
      have e10 : J 146 i = nI (lA A 10 i) := by rw [hJ.1 146 (by decide)]; exact rm10 R hi
      have hE := hJ.2.1 (6 * lA A 8 i + lA A 9 i) (by omega)
      have bE := hJ.2.2 (6 * lA A 8 i + lA A 9 i)
      unfold fwP
      by_cases c : E (6 * lA A 8 i + lA A 9 i) ≤ lA A 10 i
      · rw [Nat.min_eq_right c]
        refine ⟨_, by simp (disch := omega) only [fX3_laysWays_L53_b, fX3_laysWays_L132, nm_, nL, nI_add, nJ_mul, nJ_div, nJ_mod, nI_leI, nI_ltI, nI_eq, Option.bind_some, Option.bind_none, Nat.one_ne_zero, Nat.zero_ne_one, Nat.zero_add, Nat.add_zero, if_true, if_false, not_true_eq_false, not_false_eq_true, gm1 M, gm8 M, gm9 M, gm10 M, gm56 M, xm137 M, xm144 M, xm145 M, xm146 M, xm178 M, ym178 M, e1, e8, e9, e10, hE, c, pu_eq, show ¬ lA A 1 4 ≤ i by omega] <;> rfl, ?_⟩
        exact (hJ.up (by omega)).up (by omega)
      · rw [Nat.min_eq_left (by omega)]
        refine ⟨_, by simp (disch := omega) only [fX3_laysWays_L53_b, fX3_laysWays_L132, nm_, nL, nI_add, nJ_mul, nJ_div, nJ_mod, nI_leI, nI_ltI, nI_eq, Option.bind_some, Option.bind_none, Nat.one_ne_zero, Nat.zero_ne_one, Nat.zero_add, Nat.add_zero, if_true, if_false, not_true_eq_false, not_false_eq_true, gm1 M, gm8 M, gm9 M, gm10 M, gm56 M, xm137 M, xm144 M, xm145 M, xm146 M, xm178 M, ym178 M, e1, e8, e9, e10, hE, c, pu_eq, show ¬ lA A 1 4 ≤ i by omega] <;> rfl, ?_⟩
        exact (hJ.up (by omega)).up (by omega)
    · rintro J hJ
      have e1 : J 137 4 = nI (lA A 1 4) := by rw [hJ.1 137 (by decide)]; exact rm1 R (by decide)
      obtain ⟨J', e2, e3⟩ := mE_fw153 (L := L) M hJ
      exact ⟨_, by simp (disch := omega) only [fX3_laysWays_L53_b, nL, nI_add, nJ_mul, nJ_div, nJ_mod, nI_leI, nI_ltI, nI_eq, Option.bind_some, Option.bind_none, Nat.one_ne_zero, Nat.zero_ne_one, Nat.zero_add, Nat.add_zero, if_true, if_false, not_true_eq_false, not_false_eq_true, gm1 M, xm137 M, e1, e2, Nat.le_refl, xr_s] <;> rfl, J', rfl, e3⟩
  obtain ⟨t, h1, J', rfl, h2⟩ := this
  exact ⟨J', h1, h2⟩
theorem mE_fw10 (M : MS q) {a : Nat} (ha : a < 6) {J : iF} (h : (∀ c, c ≠ 178 → J c = I c) ∧ ∀ j, j < 6 * a → J 178 j = nI (fw0 j)) : ∃ J', fX3_laysWays_L10 136 (nI a) (nI 0) (hw q J L) = some (.inl (nI (a + 1), hw q J' L)) ∧ (∀ c, c ≠ 178 → J' c = I c) ∧ ∀ j, j < 6 * (a + 1) → J' 178 j = nI (fw0 j) := by
  have : ∃ t, fX3_laysWays_L10 136 (nI a) (nI 0) (hw q J L) = some t ∧ ∃ J', t = .inl (nI (a + 1), hw q J' L) ∧ (∀ c, c ≠ 178 → J' c = I c) ∧ ∀ j, j < 6 * (a + 1) → J' 178 j = nI (fw0 j) := by
    unfold fX3_laysWays_L10
    refine whl_st (α := iF) (fun i J => (nI i, hw q J L)) (fun i J => (∀ c, c ≠ 178 → J c = I c) ∧ ∀ j, j < 6 * a + i → J 178 j = nI (fw0 j)) 6 (a := J) rfl h ?_ ?_
    · rintro i J hi ⟨f1, f2⟩
      have e0 : fw0 (6 * a + i) = if a = i then 0 else 100000 := by
        unfold fw0
        rw [show (6 * a + i) / 6 = a by omega, show (6 * a + i) % 6 = i by omega]
      by_cases c : a = i
      · rw [if_pos c] at e0
        refine ⟨_, by simp (disch := omega) only [fX3_laysWays_L10_b, fX3_laysWays_L38, nL, nI_add, nJ_mul, nJ_div, nJ_mod, nI_leI, nI_ltI, nI_eq, Option.bind_some, Option.bind_none, Nat.one_ne_zero, Nat.zero_ne_one, Nat.zero_add, Nat.add_zero, if_true, if_false, not_true_eq_false, not_false_eq_true, gm56 M, ym178 M, c, show ¬ 6 ≤ i by omega] <;> rfl, fun d hd => by rw [pu_ne hd]; exact f1 d hd, fun j hj => ?_⟩
        rw [pu_at]
        by_cases e : j = 6 * i + i
        · rw [if_pos e, e]
          rw [c] at e0
          rw [e0]
        · rw [if_neg e]
          exact f2 j (by omega)
      · rw [if_neg c] at e0
        refine ⟨_, by simp (disch := omega) only [fX3_laysWays_L10_b, fX3_laysWays_L38, nL, nI_add, nJ_mul, nJ_div, nJ_mod, nI_leI, nI_ltI, nI_eq, Option.bind_some, Option.bind_none, Nat.one_ne_zero, Nat.zero_ne_one, Nat.zero_add, Nat.add_zero, if_true, if_false, not_true_eq_false, not_false_eq_true, gm56 M, ym178 M, c, show ¬ 6 ≤ i by omega] <;> rfl, fun d hd => by rw [pu_ne hd]; exact f1 d hd, fun j hj => ?_⟩
        rw [pu_at]
        by_cases e : j = 6 * a + i
        · rw [if_pos e, e, e0]
        · rw [if_neg e]
          exact f2 j (by omega)
    · rintro J ⟨f1, f2⟩
      exact ⟨_, by simp (disch := omega) only [fX3_laysWays_L10_b, nL, nI_add, nJ_mul, nJ_div, nJ_mod, nI_leI, nI_ltI, nI_eq, Option.bind_some, Option.bind_none, Nat.one_ne_zero, Nat.zero_ne_one, Nat.zero_add, Nat.add_zero, if_true, if_false, not_true_eq_false, not_false_eq_true, Nat.le_refl, xr_s] <;> rfl, J, rfl, f1, fun j hj => f2 j (by omega)⟩
  obtain ⟨t, h1, J', rfl, h2⟩ := this
  exact ⟨J', h1, h2⟩
theorem fw0_le (j : Nat) : fw0 j ≤ 100000 := by
  unfold fw0
  split <;> omega
theorem kE_laysWays (K : mK q I A T sM) : ∃ I', fX3_laysWays 136 (hw q I L) = some ((), hw q I' L) ∧ frW I I' (a_far A) := by
  have K0 := K
  obtain ⟨M, R, hT, hsM, hW, h24⟩ := K
  have : ∃ t, fX3_laysWays 136 (hw q I L) = some t ∧ ∃ J', t = ((), hw q J' L) ∧ frW I J' (a_far A) := by
    unfold fX3_laysWays fX3_laysWays_L2
    refine whl_st (α := iF) (fun i J => (nI i, hw q J L)) (fun i J => (∀ c, c ≠ 178 → J c = I c) ∧ ∀ j, j < 6 * i → J 178 j = nI (fw0 j)) 6 (a := I) rfl ⟨fun _ _ => rfl, fun j hj => by omega⟩ ?_ ?_
    · rintro i J hi hJ
      obtain ⟨J', e1, e2⟩ := mE_fw10 (L := L) M hi hJ
      exact ⟨J', by simp (disch := omega) only [fX3_laysWays_L2_b, nL, nI_add, nJ_mul, nJ_div, nJ_mod, nI_leI, nI_ltI, nI_eq, Option.bind_some, Option.bind_none, Nat.one_ne_zero, Nat.zero_ne_one, Nat.zero_add, Nat.add_zero, if_true, if_false, not_true_eq_false, not_false_eq_true, e1, show ¬ 6 ≤ i by omega], e2⟩
    · rintro J ⟨f1, f2⟩
      obtain ⟨J', e2, e3⟩ := mE_fw53 (L := L) K0 (J := J) ⟨f1, fun j hj => f2 j (by omega), fw0_le⟩
      exact ⟨_, by simp (disch := omega) only [fX3_laysWays_L2_b, nL, nI_add, nJ_mul, nJ_div, nJ_mod, nI_leI, nI_ltI, nI_eq, Option.bind_some, Option.bind_none, Nat.one_ne_zero, Nat.zero_ne_one, Nat.zero_add, Nat.add_zero, if_true, if_false, not_true_eq_false, not_false_eq_true, e2, Nat.le_refl, xr_s] <;> rfl, J', rfl, e3⟩
  obtain ⟨t, h1, J', rfl, h2⟩ := this
  exact ⟨J', h1, h2⟩
theorem frW.K {I I' : iF} {D : Nat → Nat} (h : frW I I' D) (K : mK q I A T sM) : mK q I' A T sM := K.keep (fun a ha => h.1 a (by omega)) (by rw [h.1 136 (by decide)]) (by rw [h.1 136 (by decide)])
theorem frW.tt {I I' : iF} {D : Nat → Nat} (h : frW I I' D) : frT I I' := frT_row (fun a _ ha => h.1 a (by omega)) (fun j _ => by rw [h.1 136 (by decide)])
theorem mE_wayOf (M : MS q) {D : Nat → Nat} {a b : Nat} (ha : a < 6) (hb : b < 6) (h : ∀ j, j < 36 → I 178 j = nI (D j)) (hD : ∀ j, D j ≤ 100000) : fX3_wayOf 136 (nI a) (nI b) (hw q I L) = some (nI (D (6 * a + b)), hw q I L) := by
  have e := h (6 * a + b) (by omega)
  have hb2 := hD (6 * a + b)
  by_cases c : 100000 ≤ D (6 * a + b)
  · have : D (6 * a + b) = 100000 := by omega
    rw [this] at e ⊢
    simp (disch := omega) only [fX3_wayOf, nL, nI_add, nJ_mul, nJ_div, nJ_mod, nI_leI, nI_ltI, nI_eq, Option.bind_some, Option.bind_none, Nat.one_ne_zero, Nat.zero_ne_one, Nat.zero_add, Nat.add_zero, if_true, if_false, not_true_eq_false, not_false_eq_true, gm56 M, xm178 M, e, Nat.le_refl]
  · simp (disch := omega) only [fX3_wayOf, nL, nI_add, nJ_mul, nJ_div, nJ_mod, nI_leI, nI_ltI, nI_eq, Option.bind_some, Option.bind_none, Nat.one_ne_zero, Nat.zero_ne_one, Nat.zero_add, Nat.add_zero, if_true, if_false, not_true_eq_false, not_false_eq_true, gm56 M, xm178 M, e, c]
end MWA
