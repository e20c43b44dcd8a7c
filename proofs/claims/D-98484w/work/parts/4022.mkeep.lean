/-! P2 MKEEP: the model: what acts lay behind, undo -/
/-- the past's rows are as lands are; the day is one of the calendar -/
def lW2 (A : ld_t) : Prop := (lA A 1 6 ≤ 9999 ∧ lA A 1 8 < 2 ^ 31) ∧ ∀ k, k < lA A 0 0 → (lP A k).1 1 6 ≤ 9999 ∧ (lP A k).1 1 1 < 2 ^ lA A 1 0 ∧ (∀ p, p < lA A 1 2 → (lP A k).1 2 p ≤ 1 ∧ (lP A k).1 5 p ≤ 24 ∧ (lP A k).1 6 p ≤ 1) ∧ ∀ who w, (who < lA A 1 2 ∨ who = 6) → (lP A k).2 who w = true → w < 2 ^ lA A 1 0
def kn0 (A : ld_t) : Nat := if lA A 0 0 = 20 then 19 else lA A 0 0
def ksh (A : ld_t) : Nat := if lA A 0 0 = 20 then 1 else 0
def a_keep (A : ld_t) : ld_t := (fun f i => if f = 0 ∧ i = 0 then kn0 A + 1 else A.1 f i, A.2.1, fun k => if k = kn0 A then (A.1, A.2.1) else A.2.2 (k + ksh A))
def un_ (A : ld_t) (n f i : Nat) : Nat := if f = 0 ∧ i = 0 then n else if f = 1 ∧ i = 6 then (lP A n).1 1 6 else if f = 1 ∧ i = 1 then (lP A n).1 1 1 else if f = 2 ∨ f = 5 ∨ f = 6 then (lP A n).1 f i else lA A f i
def a_undo (A : ld_t) : ld_t := (un_ A (lA A 0 0 - 1), (lP A (lA A 0 0 - 1)).2, A.2.2)
theorem a_keep_A {A : ld_t} {f i : Nat} (h : ¬ (f = 0 ∧ i = 0)) : lA (a_keep A) f i = lA A f i := if_neg h
theorem a_keep_0 {A : ld_t} : lA (a_keep A) 0 0 = kn0 A + 1 := rfl
theorem a_keep_H {A : ld_t} : lH (a_keep A) = lH A := rfl
theorem a_keep_P {A : ld_t} {k : Nat} : lP (a_keep A) k = if k = kn0 A then (A.1, A.2.1) else lP A (k + ksh A) := rfl
theorem kn0_le {A : ld_t} (W : lW A) : kn0 A ≤ 19 ∧ kn0 A + ksh A = lA A 0 0 := by
  have := W.1.2.2.2.2.2.2.2.2
  unfold kn0 ksh
  split <;> omega
theorem lW_keep {A : ld_t} (W : lW A) : lW (a_keep A) := by
  have h0 := (kn0_le W).1
  obtain ⟨w1, w2, w3, w4, w5, w6⟩ := W
  refine ⟨⟨w1.1, w1.2.1, w1.2.2.1, w1.2.2.2.1, w1.2.2.2.2.1, w1.2.2.2.2.2.1, w1.2.2.2.2.2.2.1, w1.2.2.2.2.2.2.2.1, ?_⟩, w2, w3, w4, w5, w6⟩
  rw [a_keep_0]
  omega
theorem lW2_keep {A : ld_t} (W : lW A) (V : lW2 A) : lW2 (a_keep A) := by
  have h0 := kn0_le W
  refine ⟨V.1, fun k hk => ?_⟩
  rw [a_keep_0] at hk
  rw [a_keep_P]
  by_cases c : k = kn0 A
  · rw [if_pos c]
    obtain ⟨w1, w2, w3, w4, w5, w6⟩ := W
    exact ⟨V.1.1, w1.2.1, fun p hp => ⟨(w2 p hp).1, (w2 p hp).2.2.2.2.1, (w2 p hp).2.2.2.2.2⟩, w6⟩
  · rw [if_neg c]
    exact V.2 (k + ksh A) (by omega)
theorem lW_undo {A : ld_t} (W : lW A) (V : lW2 A) (h : 0 < lA A 0 0) : lW (a_undo A) := by
  have v := V.2 (lA A 0 0 - 1) (by omega)
  obtain ⟨w1, w2, w3, w4, w5, w6⟩ := W
  refine ⟨⟨w1.1, v.2.1, w1.2.2.1, w1.2.2.2.1, w1.2.2.2.2.1, w1.2.2.2.2.2.1, Nat.le_trans v.1 (by decide), w1.2.2.2.2.2.2.2.1, ?_⟩, fun p hp => ?_, w3, w4, w5, v.2.2.2⟩
  · show lA A 0 0 - 1 ≤ 20
    omega
  · have z := v.2.2.1 p hp
    have u := w2 p hp
    exact ⟨z.1, u.2.1, u.2.2.1, u.2.2.2.1, z.2.1, z.2.2⟩
theorem lW2_undo {A : ld_t} (V : lW2 A) (h : 0 < lA A 0 0) : lW2 (a_undo A) := by
  have v := V.2 (lA A 0 0 - 1) (by omega)
  refine ⟨⟨v.1, V.1.2⟩, fun k hk => ?_⟩
  have hk : k < lA A 0 0 - 1 := hk
  exact V.2 k (by omega)
section MKP
variable {q : ph_t} {I : iF} {L : lF_} {A : ld_t} {T : Nat → Nat → Bool} {sM : Nat}
theorem mE_keep50 (M : MS q) {n : Nat} (hn : n < 20) (h59 : I 136 59 = nI n) : ∃ I', fX3_keepsAct_L50 136 (hw q I L) = some ((), hw q I' L) ∧ (∀ c, c ≠ 179 → c ≠ 136 → I' c = I c) ∧ (∀ j, j ≠ 59 → j ≠ 60 → j ≠ 61 → I' 136 j = I 136 j) ∧ I' 136 59 = nI (n + 1) ∧
      (∀ j, (j < 76 * n ∨ 76 * n + 76 ≤ j) → I' 179 j = I 179 j) ∧ I' 179 (76 * n) = I 137 6 ∧ I' 179 (76 * n + 1) = I 137 1 ∧ (∀ p, p < 6 → I' 179 (76 * n + 2 + p) = I 138 p ∧ I' 179 (76 * n + 8 + p) = I 141 p ∧ I' 179 (76 * n + 14 + p) = I 142 p) ∧ ∀ j, j < 56 → I' 179 (76 * n + 20 + j) = I 151 j := by
  obtain ⟨I1, e1, f1, f2, f3, f4, f5, f6, f7⟩ := mE_movesAllF (I := I) (L := L) M hn
  refine ⟨ph_u I1 136 59 (nI (n + 1)), ?_, fun c h1 h2 => by rw [pu_ne h2]; exact f1 c h1 h2, fun j h1 h2 h3 => by rw [pu_nk h1]; exact f2 j h2 h3, pu_eq, fun j hj => by rw [pu_ne (by decide)]; exact f3 j hj, by rw [pu_ne (by decide)]; exact f4, by rw [pu_ne (by decide)]; exact f5, fun p hp => by rw [pu_ne (by decide)]; exact f6 p hp, fun j hj => by rw [pu_ne (by decide)]; exact f7 j hj⟩
  have e2 : I1 136 59 = nI n := by rw [f2 59 (by decide) (by decide), h59]
  simp (disch := omega) only [fX3_keepsAct_L50, nL, nI_add, nJ_mul, nJ_div, nJ_mod, nI_leI, nI_ltI, nI_eq, Option.bind_some, Option.bind_none, Nat.one_ne_zero, Nat.zero_ne_one, Nat.zero_add, Nat.add_zero, if_true, if_false, not_true_eq_false, not_false_eq_true, gm_I M, sm_I M, h59, dm M, e1, e2]
theorem kE_keepsAct (K : mK q I A T sM) : ∃ I', fX3_keepsAct 136 (hw q I L) = some ((), hw q I' L) ∧ (∀ a, a ≠ 179 → a ≠ 136 → I' a = I a) ∧ (∀ j, j ≠ 59 → j ≠ 60 → j ≠ 61 → I' 136 j = I 136 j) ∧ mK q I' (a_keep A) T sM := by
  have K0 := K
  obtain ⟨M, R, hT, hsM, hW, h24⟩ := K
  have hU := rmU R
  have h20 := hW.1.2.2.2.2.2.2.2.2
  have h6 := hW.1.2.2.1
  obtain ⟨k1, k2⟩ := kn0_le hW
  -- once the rows are moved up
  have key : ∀ In : iF, (∀ c, c ≠ 179 → c ≠ 136 → In c = I c) → (∀ j, j ≠ 59 → In 136 j = I 136 j) → In 136 59 = nI (kn0 A) → (∀ j, j < 76 * kn0 A → In 179 j = I 179 (j + 76 * ksh A)) → ∃ I', fX3_keepsAct_L50 136 (hw q In L) = some ((), hw q I' L) ∧ (∀ a, a ≠ 179 → a ≠ 136 → I' a = I a) ∧ (∀ j, j ≠ 59 → j ≠ 60 → j ≠ 61 → I' 136 j = I 136 j) ∧ mK q I' (a_keep A) T sM := by
    intro In g1 g2 g3 g4
    obtain ⟨I', e1, f1, f2, f3, f4, f5, f6, f7, f8⟩ := mE_keep50 (I := In) (L := L) M (n := kn0 A) (by omega) g3
    have e : ∀ a, a ≠ 179 → a ≠ 136 → I' a = I a := fun a a1 a2 => (f1 a a1 a2).trans (g1 a a1 a2)
    refine ⟨I', e1, e, fun j j1 j2 j3 => (f2 j j1 j2 j3).trans (g2 j j1), M, mlR_mk ?_ (fun j hj => ?_) (fun f f1 f2 p hp => ?_) (fun p hp => ?_) (fun f f1 f2 p hp => ?_) (fun f f1 f2 p hp => ?_) (fun f f1 f2 p hp => ?_) (fun who hq => ?_) (fun k hk => ?_), ?_, ?_, lW_keep hW, h24⟩
    · rw [mlL_0, f3]; rfl
    · rw [mlL_f (by omega) (by omega), e _ (by omega) (by omega), a_keep_A (by omega)]; exact rm1 R hj
    · rw [mlL_f (by omega) (by omega), e _ (by omega) (by omega), a_keep_A (by omega), ← mlL_f (I := I) (f := f) (by omega) (by omega)]; exact R.g2 f1 f2 hp
    · rw [mlL_f (by omega) (by omega), e _ (by omega) (by omega), a_keep_A (by omega)]; exact R.g7 hp
    · rw [mlL_f (by omega) (by omega), e _ (by omega) (by omega), a_keep_A (by omega), ← mlL_f (I := I) (f := f) (by omega) (by omega)]; exact R.g8 f1 f2 hp
    · rw [mlL_f (by omega) (by omega), e _ (by omega) (by omega), a_keep_A (by omega), ← mlL_f (I := I) (f := f) (by omega) (by omega)]; exact R.g11 f1 f2 hp
    · rw [mlL_f (by omega) (by omega), e _ (by omega) (by omega), a_keep_A (by omega), ← mlL_f (I := I) (f := f) (by omega) (by omega)]; exact R.g13 f1 f2 hp
    · rw [mlL_15, e _ (by omega) (by omega)]; exact R.2.1 who hq
    · rw [a_keep_0] at hk
      rw [mlL_57, a_keep_P]
      by_cases c : k = kn0 A
      · subst c
        rw [if_pos rfl]
        refine ⟨?_, ?_, fun p hp => ?_, fun who hq => ?_⟩
        · rw [f5, g1 _ (by decide) (by decide)]; exact rm1 R (by decide)
        · rw [f6, g1 _ (by decide) (by decide)]; exact rm1 R (by decide)
        · have hp : p < lA A 1 2 := hp
          rw [(f7 p (by omega)).1, (f7 p (by omega)).2.1, (f7 p (by omega)).2.2, g1 _ (by decide) (by decide), g1 _ (by decide) (by decide), g1 _ (by decide) (by decide)]
          exact ⟨rm2 R hp, rm5 R hp, rm6 R hp⟩
        · intro w hw_
          have hq : who < lA A 1 2 ∨ who = 6 := hq
          rw [Nat.add_assoc (76 * kn0 A + 20), f8 _ (by omega), g1 _ (by decide) (by decide)]
          exact R.2.1 who hq w hw_
      · rw [if_neg c]
        have e9 : ∀ j, j < 76 → I' 179 (76 * k + j) = I 179 (76 * (k + ksh A) + j) := fun j hj => by
          rw [f4 _ (by omega), g4 _ (by omega)]
          congr 1
          omega
        have r := R.2.2 (k + ksh A) (by omega)
        rw [mlL_57] at r
        refine ⟨?_, ?_, fun p hp => ?_, fun who hq => ?_⟩
        · exact (e9 0 (by omega)).trans r.1
        · exact (e9 1 (by omega)).trans r.2.1
        · have hp : p < lA A 1 2 := hp
          rw [Nat.add_assoc, Nat.add_assoc, Nat.add_assoc, e9 _ (by omega), e9 _ (by omega), e9 _ (by omega), ← Nat.add_assoc, ← Nat.add_assoc, ← Nat.add_assoc]
          exact r.2.2.1 p hp
        · intro w hw_
          have hq : who < lA A 1 2 ∨ who = 6 := hq
          have := r.2.2.2 who hq w hw_
          rw [Nat.add_assoc (76 * k), Nat.add_assoc (76 * k), e9 _ (by omega), ← Nat.add_assoc, ← Nat.add_assoc]
          exact this
    · rw [e _ (by decide) (by decide)]; exact hT
    · rw [f2 _ (by decide) (by decide) (by decide), g2 _ (by decide)]; exact hsM
  unfold fX3_keepsAct
  by_cases c : lA A 0 0 = 20
  · have e19 : kn0 A = 19 := if_pos c
    have es : ksh A = 1 := if_pos c
    have hi : (gI (hw q I L) (some 136) 2 59) = some (nI 20) := by rw [gm_I M, hU, c]
    have : ∃ t, fX3_keepsAct_L12 136 (nI 76) (hw q I L) = some t ∧ ∃ I', t = ((), hw q I' L) ∧ (∀ a, a ≠ 179 → a ≠ 136 → I' a = I a) ∧ (∀ j, j ≠ 59 → j ≠ 60 → j ≠ 61 → I' 136 j = I 136 j) ∧ mK q I' (a_keep A) T sM := by
      unfold fX3_keepsAct_L12
      refine whl_st (α := iF) (fun i J => (nI (76 + i), hw q J L)) (fun i J => (∀ c, c ≠ 179 → J c = I c) ∧ ∀ j, J 179 j = if j < i then I 179 (j + 76) else I 179 j) 1444 (a := I) rfl ⟨fun _ _ => rfl, fun j => by rw [if_neg (by omega)]⟩ ?_ ?_
      · rintro i J hi ⟨g1, g2⟩
        have e1 : J 179 (76 + i) = I 179 (i + 76) := by rw [g2, if_neg (by omega), Nat.add_comm]
        refine ⟨_, by simp (disch := omega) only [fX3_keepsAct_L12_b, nL, nI_add, nJ_mul, nJ_div, nJ_mod, nI_leI, nI_ltI, nI_eq, Option.bind_some, Option.bind_none, Nat.one_ne_zero, Nat.zero_ne_one, Nat.zero_add, Nat.add_zero, if_true, if_false, not_true_eq_false, not_false_eq_true, gm57 M, xm179 M, ym179 M, nJ_sub, show ¬ 1520 ≤ 76 + i by omega, e1, Nat.add_sub_cancel_left, Nat.add_assoc] <;> rfl, fun c hc => by rw [pu_ne hc]; exact g1 c hc, fun j => ?_⟩
        rw [pu_at]
        by_cases c2 : j = i
        · subst c2; rw [if_pos rfl, if_pos (by omega)]
        · rw [if_neg c2, g2]
          by_cases c3 : j < i
          · rw [if_pos c3, if_pos (by omega)]
          · rw [if_neg c3, if_neg (by omega)]
      · rintro J ⟨g1, g2⟩
        obtain ⟨I', e1, e2, e3, e4⟩ := key (ph_u J 136 59 (nI 19)) (fun c c1 c2 => by rw [pu_ne c2]; exact g1 c c1) (fun j hj => by rw [pu_nk hj, g1 136 (by decide)]) (by rw [pu_eq, e19]) (fun j hj => by rw [pu_ne (by decide), g2, e19] at *; rw [if_pos (by omega), es])
        have eU : J 136 59 = nI 20 := by rw [g1 136 (by decide), hU, c]
        exact ⟨_, by simp (disch := omega) only [fX3_keepsAct_L12_b, nL, nI_add, nJ_mul, nJ_div, nJ_mod, nI_leI, nI_ltI, nI_eq, Option.bind_some, Option.bind_none, Nat.one_ne_zero, Nat.zero_ne_one, Nat.zero_add, Nat.add_zero, if_true, if_false, not_true_eq_false, not_false_eq_true, gm_I M, sm_I M, eU, nJ_sub, show 1520 ≤ 76 + 1444 by omega, e1, xr_s] <;> rfl, I', rfl, e2, e3, e4⟩
    obtain ⟨t, h1, I', rfl, h2, h3, h4⟩ := this
    refine ⟨I', ?_, h2, h3, h4⟩
    simp (disch := omega) only [nL, nI_add, nJ_mul, nJ_div, nJ_mod, nI_leI, nI_ltI, nI_eq, Option.bind_some, Option.bind_none, Nat.one_ne_zero, Nat.zero_ne_one, Nat.zero_add, Nat.add_zero, if_true, if_false, not_true_eq_false, not_false_eq_true, hi, h1]
  · have e19 : kn0 A = lA A 0 0 := if_neg c
    have es : ksh A = 0 := if_neg c
    obtain ⟨I', e1, e2, e3, e4⟩ := key I (fun _ _ _ => rfl) (fun _ _ => rfl) (by rw [e19]; exact hU) (fun j hj => by rw [es]; rfl)
    refine ⟨I', ?_, e2, e3, e4⟩
    simp (disch := omega) only [nL, nI_add, nJ_mul, nJ_div, nJ_mod, nI_leI, nI_ltI, nI_eq, Option.bind_some, Option.bind_none, Nat.one_ne_zero, Nat.zero_ne_one, Nat.zero_add, Nat.add_zero, if_true, if_false, not_true_eq_false, not_false_eq_true, gm_I M, hU, c, e1]
theorem kE_undo (K : mK q I A T sM) (V : lW2 A) (h : 0 < lA A 0 0) : ∃ I', fX3_undo 136 (hw q I L) = some (nI (lA A 0 0 - 1), hw q I' L) ∧ (∀ a, a ≠ 136 → (a < 137 ∨ (151 < a ∧ a < 178) ∨ a = 179 ∨ 188 ≤ a) → I' a = I a) ∧ (∀ j, j ≠ 59 → j ≠ 60 → j ≠ 61 → I' 136 j = I 136 j) ∧ mK q I' (a_undo A) T sM := by
  have K0 := K
  obtain ⟨M, R, hT, hsM, hW, h24⟩ := K
  have hU := rmU R
  have h20 := hW.1.2.2.2.2.2.2.2.2
  have h6 := hW.1.2.2.1
  obtain ⟨n, hn⟩ : ∃ n, lA A 0 0 = n + 1 := ⟨lA A 0 0 - 1, by omega⟩
  have hn1 : lA A 0 0 - 1 = n := by omega
  obtain ⟨I', e1, f1, f2, f3, f4, f5, f6, f7⟩ := mE_movesAllT (I := ph_u I 136 59 (nI n)) (L := L) M (k := n) (by omega)
  have g59 : I' 136 59 = nI n := by rw [f2 59 (by decide) (by decide), pu_eq]
  have f1 : ∀ c, c ≠ 136 → c ≠ 137 → c ≠ 138 → c ≠ 141 → c ≠ 142 → c ≠ 151 → I' c = I c := fun c c1 c2 c3 c4 c5 c6 => by rw [f1 c c1 c2 c3 c4 c5 c6, pu_ne c1]
  have f3 : ∀ j, j ≠ 6 → j ≠ 1 → I' 137 j = I 137 j := fun j j1 j2 => by rw [f3 j j1 j2, pu_ne (by decide)]
  rw [pu_ne (by decide)] at f4 f5
  have f6 : ∀ p, p < 6 → I' 138 p = I 179 (76 * n + 2 + p) ∧ I' 141 p = I 179 (76 * n + 8 + p) ∧ I' 142 p = I 179 (76 * n + 14 + p) := fun p hp => by
    have := f6 p hp
    rw [pu_ne (by decide)] at this
    exact this
  have f7 : ∀ j, j < 56 → I' 151 j = I 179 (76 * n + 20 + j) := fun j hj => by rw [f7 j hj, pu_ne (by decide)]
  have r := R.2.2 n (by omega)
  rw [mlL_57] at r
  rw [hn1]
  refine ⟨I', ?_, fun a ha hb => ?_, fun j j1 j2 j3 => by rw [f2 j j2 j3, pu_nk j1], M, mlR_mk ?_ (fun j hj => ?_) (fun f g1 g2 p hp => ?_) (fun p hp => ?_) (fun f g1 g2 p hp => ?_) (fun f g1 g2 p hp => ?_) (fun f g1 g2 p hp => ?_) (fun who hq => ?_) (fun k hk => ?_), ?_, ?_, lW_undo hW V h, h24⟩
  · simp (disch := omega) only [fX3_undo, nL, nI_add, nJ_mul, nJ_div, nJ_mod, nI_leI, nI_ltI, nI_eq, Option.bind_some, Option.bind_none, Nat.one_ne_zero, Nat.zero_ne_one, Nat.zero_add, Nat.add_zero, if_true, if_false, not_true_eq_false, not_false_eq_true, gm_I M, sm_I M, hU, hn, show ¬ n + 1 = 0 by omega, nJ_sub, Nat.add_sub_cancel, pu_eq, dm M, e1, g59]
  · exact f1 a ha (by omega) (by omega) (by omega) (by omega) (by omega)
  · rw [mlL_0, g59, ← hn1]; rfl
  · rw [mlL_f (by omega) (by omega)]
    show I' 137 j = nI (un_ A (lA A 0 0 - 1) 1 j)
    unfold un_
    rw [hn1, if_neg (by omega)]
    by_cases c6 : j = 6
    · subst c6; rw [if_pos ⟨rfl, rfl⟩, f4]; exact r.1
    · rw [if_neg (by omega)]
      by_cases c1 : j = 1
      · subst c1; rw [if_pos ⟨rfl, rfl⟩, f5]; exact r.2.1
      · rw [if_neg (by omega), if_neg (by omega), f3 j c6 c1]; exact rm1 R hj
  · have hp : p < lA A 1 2 := hp
    show mlL I' f p = nI (un_ A (lA A 0 0 - 1) f p)
    rw [mlL_f (by omega) (by omega)]
    unfold un_
    rw [hn1, if_neg (by omega), if_neg (by omega), if_neg (by omega)]
    have z := f6 p (by omega)
    have y := r.2.2.1 p hp
    by_cases c : f = 2 ∨ f = 5 ∨ f = 6
    · rw [if_pos c]
      rcases c with rfl | rfl | rfl
      · exact z.1.trans y.1
      · exact z.2.1.trans y.2.1
      · exact z.2.2.trans y.2.2
    · rw [if_neg c, f1 _ (by omega) (by omega) (by omega) (by omega) (by omega) (by omega), ← mlL_f (I := I) (f := f) (by omega) (by omega)]; exact R.g2 g1 g2 hp
  · show _ = nI (lA A 7 p)
    rw [mlL_f (by omega) (by omega), f1 _ (by omega) (by omega) (by omega) (by omega) (by omega) (by omega)]; exact R.g7 hp
  · rw [show lA (a_undo A) f p = lA A f p from by
      show un_ A _ f p = _
      unfold un_
      rw [if_neg (by omega), if_neg (by omega), if_neg (by omega), if_neg (by omega)], mlL_f (by omega) (by omega), f1 _ (by omega) (by omega) (by omega) (by omega) (by omega) (by omega), ← mlL_f (I := I) (f := f) (by omega) (by omega)]; exact R.g8 g1 g2 hp
  · rw [show lA (a_undo A) f p = lA A f p from by
      show un_ A _ f p = _
      unfold un_
      rw [if_neg (by omega), if_neg (by omega), if_neg (by omega), if_neg (by omega)], mlL_f (by omega) (by omega), f1 _ (by omega) (by omega) (by omega) (by omega) (by omega) (by omega), ← mlL_f (I := I) (f := f) (by omega) (by omega)]; exact R.g11 g1 g2 hp
  · rw [show lA (a_undo A) f p = lA A f p from by
      show un_ A _ f p = _
      unfold un_
      rw [if_neg (by omega), if_neg (by omega), if_neg (by omega), if_neg (by omega)], mlL_f (by omega) (by omega), f1 _ (by omega) (by omega) (by omega) (by omega) (by omega) (by omega), ← mlL_f (I := I) (f := f) (by omega) (by omega)]; exact R.g13 g1 g2 hp
  · intro w hw_
    have hq : who < lA A 1 2 ∨ who = 6 := hq
    rw [mlL_15, f7 _ (by omega), ← Nat.add_assoc]
    show _ = (lP A (lA A 0 0 - 1)).2 who w
    rw [hn1]
    exact r.2.2.2 who hq w hw_
  · have hk : k < n := by
      have : k < lA A 0 0 - 1 := hk
      omega
    rw [mlL_57, f1 _ (by decide) (by decide) (by decide) (by decide) (by decide) (by decide)]
    exact R.2.2 k (by omega)
  · rw [f1 _ (by decide) (by decide) (by decide) (by decide) (by decide) (by decide)]; exact hT
  · rw [f2 _ (by decide) (by decide), pu_nk (by decide)]; exact hsM
end MKP
