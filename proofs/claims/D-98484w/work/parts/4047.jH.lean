/-! P2 JH: both answer: sets that fit -/
/-- a set fits all trials -/
def fitB (A : ld_t) (T : Nat → Nat → Bool) (sM set : Nat) : Bool := allB (fun k => a_fol A T sM set (lA A 13 k) == decide (lA A 14 k = 1)) (lA A 1 7)
/-- a fold over the sets that fit -/
def fFS {α : Type} (fit : Nat → Bool) (f : Nat → α → α) (a : α) (n : Nat) : α := fo_ (fun s x => if fit s then f s x else x) a n
theorem fFS_1 {α : Type} {fit : Nat → Bool} {f : Nat → α → α} {a : α} {n : Nat} (h : fit n = true) : fFS fit f a (n + 1) = f n (fFS fit f a n) := if_pos h
theorem fFS_0 {α : Type} {fit : Nat → Bool} {f : Nat → α → α} {a : α} {n : Nat} (h : fit n = false) : fFS fit f a (n + 1) = fFS fit f a n := if_neg (by rw [h]; decide)
theorem fFS_arr {α : Type} {fit : Nat → Bool} {f : Nat → α → α} {a : α} {arr : Nat → Nat} : ∀ (n : Nat), (∀ s, s < n → fit s = true → arr (fb_ct fit s) = s) → fo_ (fun j x => f (arr j) x) a (fb_ct fit n) = fFS fit f a n
  | 0, _ => rfl
  | n + 1, h => by
    have ih := fFS_arr (f := f) (a := a) n (fun s hs => h s (by omega))
    rw [fb_ct_succ]
    cases c : fit n
    · rw [fFS_0 c, ← ih]
      rfl
    · rw [fFS_1 c, ← ih]
      show f (arr (fb_ct fit n)) _ = _
      rw [h n (by omega) c]
theorem fit_at {fit : Nat → Bool} : ∀ {n j : Nat}, j < fb_ct fit n → ∃ s, s < n ∧ fit s = true ∧ fb_ct fit s = j
  | 0, j, h => by cases h
  | n + 1, j, h => by
    rw [fb_ct_succ] at h
    by_cases c : j < fb_ct fit n
    · obtain ⟨s, h1, h2⟩ := fit_at c
      exact ⟨s, by omega, h2⟩
    · cases d : fit n
      · rw [d] at h
        simp only [Bool.false_eq_true, if_false] at h
        omega
      · rw [d] at h
        simp only [if_true] at h
        exact ⟨n, by omega, d, by omega⟩
theorem beq_dec {b : Bool} {P : Prop} [Decidable P] (h : nI (if b then 1 else 0) = nI (if decide P then 1 else 0)) : (b == decide P) = true := by
  rw [beq_iff_eq]
  exact b2_eq.mp h
def m8_ (sM : Nat) : Nat := min 8 sM
theorem m8_le {sM : Nat} : m8_ sM ≤ 8 := Nat.min_le_left _ _
section JH
variable {q : ph_t} {I : iF} {L : lF_} {A : ld_t} {T : Nat → Nat → Bool} {sM : Nat}
theorem kE_firstOnes (K : mK q I A T sM) : fX3_firstOnes 136 (hw q I L) = some (nI (m8_ sM), hw q I L) := by
  obtain ⟨M, R, hT, hsM, W, h24⟩ := id K
  unfold m8_
  by_cases c : 8 ≤ sM
  · rw [Nat.min_eq_left c]
    simp (disch := omega) only [fX3_firstOnes, nL, nI_add, nJ_mul, nJ_div, nJ_mod, nI_leI, nI_ltI, nI_eq, Option.bind_some, Option.bind_none, Nat.one_ne_zero, Nat.zero_ne_one, Nat.zero_add, Nat.add_zero, if_true, if_false, not_true_eq_false, not_false_eq_true, gm_I M, hsM, c]
  · rw [Nat.min_eq_right (by omega)]
    simp (disch := omega) only [fX3_firstOnes, nL, nI_add, nJ_mul, nJ_div, nJ_mod, nI_leI, nI_ltI, nI_eq, Option.bind_some, Option.bind_none, Nat.one_ne_zero, Nat.zero_ne_one, Nat.zero_add, Nat.add_zero, if_true, if_false, not_true_eq_false, not_false_eq_true, gm_I M, hsM, c]
theorem mn_8 {sM : Nat} (h : sM ≤ 24) : mn_ (nI 8) (nI sM) = nI (m8_ sM) := by
  unfold m8_
  by_cases c : sM < 8
  · rw [Nat.min_eq_right (by omega)]
    simp (disch := omega) only [mn_, nL, nI_add, nJ_mul, nJ_div, nJ_mod, nI_leI, nI_ltI, nI_eq, Option.bind_some, Option.bind_none, Nat.one_ne_zero, Nat.zero_ne_one, Nat.zero_add, Nat.add_zero, if_true, if_false, not_true_eq_false, not_false_eq_true, c]
  · rw [Nat.min_eq_left (by omega)]
    simp (disch := omega) only [mn_, nL, nI_add, nJ_mul, nJ_div, nJ_mod, nI_leI, nI_ltI, nI_eq, Option.bind_some, Option.bind_none, Nat.one_ne_zero, Nat.zero_ne_one, Nat.zero_add, Nat.add_zero, if_true, if_false, not_true_eq_false, not_false_eq_true, c]
/-- the sayings tried are sayings -/
def trOK (A : ld_t) (sM : Nat) : Prop := ∀ k, k < lA A 1 7 → lA A 13 k < sM ∧ lA A 14 k ≤ 1
theorem kE_doesFit (K : mK q I A T sM) (hO : trOK A sM) {set : Nat} : fX3_doesFit 136 (nI set) (hw q I L) = some (nI (if fitB A T sM set then 1 else 0), hw q I L) := by
  obtain ⟨M, R, hT, hsM, W, h24⟩ := id K
  have w7 := W.1.2.2.2.2.2.2.2.1
  unfold fX3_doesFit fX3_doesFit_L4 fitB
  generalize hP : (fun k => a_fol A T sM set (lA A 13 k) == decide (lA A 14 k = 1)) = P
  obtain ⟨t, h1, h2⟩ := whl_inv (f := fun z : Int32 × Int32 × ph_t => fX3_doesFit_L4_b 136 (nI set) z.1 z.2.1 z.2.2) (P := fun i z => z = (nI (if allB P i then 1 else 0), nI i, hw q I L)) (Q := fun t => t = (nI (if allB P (lA A 1 7) then 1 else 0), hw q I L)) (lA A 1 7) (by
      rintro i z hi rfl
      by_cases c : i < lA A 1 7
      · cases c0 : allB P i
        · right
          rw [allB_f c0 hi]
          exact ⟨_, by simp (disch := omega) only [fX3_doesFit_L4_b, nL, nI_add, nJ_mul, nJ_div, nJ_mod, nI_leI, nI_ltI, nI_eq, Option.bind_some, Option.bind_none, Nat.one_ne_zero, Nat.zero_ne_one, Nat.zero_add, Nat.add_zero, if_true, if_false, not_true_eq_false, not_false_eq_true, gm1 M, xm137 M, rm1 R, show ¬ lA A 1 7 ≤ i by omega, rz_0, xr_s, Bool.false_eq_true] <;> rfl, rfl⟩
        · left
          obtain ⟨o1, o2⟩ := hO i c
          have eF := kE_doesFollow (L := L) K (set := set) o1
          have eP : P i = (a_fol A T sM set (lA A 13 i) == decide (lA A 14 i = 1)) := by rw [← hP]
          refine ⟨c, _, ?_, rfl⟩
          rw [show allB P (i + 1) = (allB P i && P i) from rfl, c0, Bool.true_and, eP]
          by_cases c1 : lA A 14 i = 1
          · cases c2 : a_fol A T sM set (lA A 13 i)
            · simp (disch := omega) only [fX3_doesFit_L4_b, fX3_doesFit_L45, fX3_doesFit_L53, nL, nI_add, nJ_mul, nJ_div, nJ_mod, nI_leI, nI_ltI, nI_eq, Option.bind_some, Option.bind_none, Nat.one_ne_zero, Nat.zero_ne_one, Nat.zero_add, Nat.add_zero, if_true, if_false, not_true_eq_false, not_false_eq_true, gm1 M, xm137 M, rm1 R, show ¬ lA A 1 7 ≤ i by omega, gm13 M, xm149 M, rm13 R, dm M, eF, gm14 M, xm150 M, rm14 R, c1, c2, Bool.false_eq_true, decide_true]
              rfl
            · simp (disch := omega) only [fX3_doesFit_L4_b, fX3_doesFit_L45, fX3_doesFit_L53, nL, nI_add, nJ_mul, nJ_div, nJ_mod, nI_leI, nI_ltI, nI_eq, Option.bind_some, Option.bind_none, Nat.one_ne_zero, Nat.zero_ne_one, Nat.zero_add, Nat.add_zero, if_true, if_false, not_true_eq_false, not_false_eq_true, gm1 M, xm137 M, rm1 R, show ¬ lA A 1 7 ≤ i by omega, gm13 M, xm149 M, rm13 R, dm M, eF, gm14 M, xm150 M, rm14 R, c1, c2, decide_true]
              rfl
          · cases c2 : a_fol A T sM set (lA A 13 i)
            · simp (disch := omega) only [fX3_doesFit_L4_b, fX3_doesFit_L45, fX3_doesFit_L53, nL, nI_add, nJ_mul, nJ_div, nJ_mod, nI_leI, nI_ltI, nI_eq, Option.bind_some, Option.bind_none, Nat.one_ne_zero, Nat.zero_ne_one, Nat.zero_add, Nat.add_zero, if_true, if_false, not_true_eq_false, not_false_eq_true, gm1 M, xm137 M, rm1 R, show ¬ lA A 1 7 ≤ i by omega, gm13 M, xm149 M, rm13 R, dm M, eF, gm14 M, xm150 M, rm14 R, c1, c2, Bool.false_eq_true, decide_false]
              rfl
            · simp (disch := omega) only [fX3_doesFit_L4_b, fX3_doesFit_L45, fX3_doesFit_L53, nL, nI_add, nJ_mul, nJ_div, nJ_mod, nI_leI, nI_ltI, nI_eq, Option.bind_some, Option.bind_none, Nat.one_ne_zero, Nat.zero_ne_one, Nat.zero_add, Nat.add_zero, if_true, if_false, not_true_eq_false, not_false_eq_true, gm1 M, xm137 M, rm1 R, show ¬ lA A 1 7 ≤ i by omega, gm13 M, xm149 M, rm13 R, dm M, eF, gm14 M, xm150 M, rm14 R, c1, c2, Bool.false_eq_true, decide_false]
              rfl
      · right
        have : i = lA A 1 7 := by omega
        subst this
        exact ⟨_, by simp (disch := omega) only [fX3_doesFit_L4_b, nL, nI_add, nJ_mul, nJ_div, nJ_mod, nI_leI, nI_ltI, nI_eq, Option.bind_some, Option.bind_none, Nat.one_ne_zero, Nat.zero_ne_one, Nat.zero_add, Nat.add_zero, if_true, if_false, not_true_eq_false, not_false_eq_true, gm1 M, xm137 M, rm1 R, Nat.le_refl, rz_n, xr_s] <;> rfl, rfl⟩) 0 _ (by omega) rfl
  rw [nJ_0]
  exact h1.trans (by rw [h2])
theorem bK_isTried (K : bK q 66 I L A T sM) (hl : ph_R q 64 2 = some 66) (hO : trOK A sM) {set : Nat} : fX0_isTried 64 (nI set) (hw q I L) = some (nI (if fitB A T sM set then 1 else 0), hw q I L) := by
  obtain ⟨X, G, R, hT, hsM, W, h24, -⟩ := id K
  have w7 := W.1.2.2.2.2.2.2.2.1
  unfold fX0_isTried fX0_isTried_L2 fitB
  have := whl_any (f := fun s_1 : Int32 × ph_t => fX0_isTried_L2_b 64 (nI set) s_1.1 s_1.2) (fun i => (nI (2 * i), hw q I L)) (fun k => !(a_fol A T sM set (lA A 13 k) == decide (lA A 14 k = 1))) (lA A 1 7) (t0 := (nI 1, hw q I L)) (t1 := (nI 0, hw q I L)) rfl
    (fun i hi c => by
      obtain ⟨o1, o2⟩ := hO i hi
      have eF := bK_follows (L := L) K hl (set := set) o1
      rw [show 2 * (i + 1) = 2 * i + 2 by omega]
      by_cases c1 : lA A 14 i = 1
      · have c2 : a_fol A T sM set (lA A 13 i) = true := by simpa [c1] using c
        simp (disch := omega) only [fX0_isTried_L2_b, fX0_isTried_L49, nL, nI_add, nJ_mul, nJ_div, nJ_mod, nI_leI, nI_ltI, nI_eq, Option.bind_some, Option.bind_none, Nat.one_ne_zero, Nat.zero_ne_one, Nat.zero_add, Nat.add_zero, if_true, if_false, not_true_eq_false, not_false_eq_true, gx2 X hl, gl_I G, R.f8, show ¬ 2 * lA A 1 7 ≤ 2 * i by omega, gl18 G, xl18 G, rl10 R, rl11 R, dx X, eF, c1, c2]
      · have c2 : a_fol A T sM set (lA A 13 i) = false := by simpa [c1] using c
        simp (disch := omega) only [fX0_isTried_L2_b, fX0_isTried_L49, nL, nI_add, nJ_mul, nJ_div, nJ_mod, nI_leI, nI_ltI, nI_eq, Option.bind_some, Option.bind_none, Nat.one_ne_zero, Nat.zero_ne_one, Nat.zero_add, Nat.add_zero, if_true, if_false, not_true_eq_false, not_false_eq_true, gx2 X hl, gl_I G, R.f8, show ¬ 2 * lA A 1 7 ≤ 2 * i by omega, gl18 G, xl18 G, rl10 R, rl11 R, dx X, eF, c1, c2, Bool.false_eq_true])
    (fun i hi c => by
      obtain ⟨o1, o2⟩ := hO i hi
      have eF := bK_follows (L := L) K hl (set := set) o1
      by_cases c1 : lA A 14 i = 1
      · have c2 : a_fol A T sM set (lA A 13 i) = false := by simpa [c1] using c
        simp (disch := omega) only [fX0_isTried_L2_b, fX0_isTried_L49, nL, nI_add, nJ_mul, nJ_div, nJ_mod, nI_leI, nI_ltI, nI_eq, Option.bind_some, Option.bind_none, Nat.one_ne_zero, Nat.zero_ne_one, Nat.zero_add, Nat.add_zero, if_true, if_false, not_true_eq_false, not_false_eq_true, gx2 X hl, gl_I G, R.f8, show ¬ 2 * lA A 1 7 ≤ 2 * i by omega, gl18 G, xl18 G, rl10 R, rl11 R, dx X, eF, c1, c2, Bool.false_eq_true, rz_0, xr_s]
      · have c2 : a_fol A T sM set (lA A 13 i) = true := by simpa [c1] using c
        simp (disch := omega) only [fX0_isTried_L2_b, fX0_isTried_L49, nL, nI_add, nJ_mul, nJ_div, nJ_mod, nI_leI, nI_ltI, nI_eq, Option.bind_some, Option.bind_none, Nat.one_ne_zero, Nat.zero_ne_one, Nat.zero_add, Nat.add_zero, if_true, if_false, not_true_eq_false, not_false_eq_true, gx2 X hl, gl_I G, R.f8, show ¬ 2 * lA A 1 7 ≤ 2 * i by omega, gl18 G, xl18 G, rl10 R, rl11 R, dx X, eF, c1, c2, rz_0, xr_s])
    (by simp (disch := omega) only [fX0_isTried_L2_b, nL, nI_add, nJ_mul, nJ_div, nJ_mod, nI_leI, nI_ltI, nI_eq, Option.bind_some, Option.bind_none, Nat.one_ne_zero, Nat.zero_ne_one, Nat.zero_add, Nat.add_zero, if_true, if_false, not_true_eq_false, not_false_eq_true, gx2 X hl, gl_I G, R.f8, Nat.le_refl, rz_1, xr_s])
  refine this.trans ?_
  rw [all_any]
  cases anyB (fun k => !(a_fol A T sM set (lA A 13 k) == decide (lA A 14 k = 1))) (lA A 1 7) <;> rfl
theorem fb_ct_lt (p : Nat → Bool) (n : Nat) : fb_ct p n ≤ n := fb_ct_le p n
/-- those that fit are gathered -/
theorem bK_gathers (K : bK q 66 I L A T sM) (hl : ph_R q 64 2 = some 66) (hO : trOK A sM) : ∃ I', fX0_gathersFit 64 (hw q I L) = some ((), hw q I' L) ∧ (∀ a, a ≠ 64 → a ≠ 134 → I' a = I a) ∧ (∀ j, j ≠ 25 → I' 64 j = I 64 j) ∧ I' 64 25 = nI (fb_ct (fitB A T sM) (2 ^ m8_ sM)) ∧ ∀ s, s < 2 ^ m8_ sM → fitB A T sM s = true → I' 134 (fb_ct (fitB A T sM) s) = nI s := by
  obtain ⟨X, G, R, hT, hsM, W, h24, hg⟩ := id K
  have h8 := p2_8 (m8_le (sM := sM))
  have e8 := nJ_shl (k := m8_ sM) (by have := m8_le (sM := sM); omega)
  rw [nL 1] at e8
  have emn := mn_8 h24
  obtain ⟨N, hN⟩ : ∃ N, 2 ^ m8_ sM = N := ⟨_, rfl⟩
  rw [hN] at e8 h8
  rw [hN]
  have : ∃ t, fX0_gathersFit_L7 64 (nI 0) (hw q (ph_u I 64 25 (nI 0)) L) = some t ∧ ∃ I', t = ((), hw q I' L) ∧ (∀ a, a ≠ 64 → a ≠ 134 → I' a = I a) ∧ (∀ j, j ≠ 25 → I' 64 j = I 64 j) ∧ I' 64 25 = nI (fb_ct (fitB A T sM) N) ∧ ∀ s, s < N → fitB A T sM s = true → I' 134 (fb_ct (fitB A T sM) s) = nI s := by
    unfold fX0_gathersFit_L7
    refine whl_st (α := iF) (fun i J => (nI i, hw q J L)) (fun i J => (∀ a, a ≠ 64 → a ≠ 134 → J a = I a) ∧ (∀ j, j ≠ 25 → J 64 j = I 64 j) ∧ J 64 25 = nI (fb_ct (fitB A T sM) i) ∧ ∀ s, s < i → fitB A T sM s = true → J 134 (fb_ct (fitB A T sM) s) = nI s) N (a := _) rfl ⟨fun a h1 _ => pu_ne h1, fun j hj => pu_nk hj, pu_eq, fun s hs => by omega⟩ ?_ ?_
    · rintro i J hi ⟨f1, f2, f3, f4⟩
      have KJ : bK q 66 J L A T sM := ⟨X, G, glR_keep W R (fun a a1 a2 => f1 a (by omega) (by omega)) (fun _ _ _ => rfl), hT, by rw [f2 1 (by decide)]; exact hsM, W, h24, hg⟩
      have eT := bK_isTried (L := L) KJ hl hO (set := i)
      have hs1 : J 64 1 = nI sM := by rw [f2 1 (by decide)]; exact hsM
      have hc := fb_ct_lt (fitB A T sM) i
      cases c : fitB A T sM i
      · refine ⟨J, by simp (disch := omega) only [fX0_gathersFit_L7_b, fX0_gathersFit_L53, nL, nI_add, nJ_mul, nJ_div, nJ_mod, nI_leI, nI_ltI, nI_eq, Option.bind_some, Option.bind_none, Nat.one_ne_zero, Nat.zero_ne_one, Nat.zero_add, Nat.add_zero, if_true, if_false, not_true_eq_false, not_false_eq_true, gx_I X, hs1, emn, e8, show ¬ N ≤ i by omega, dx X, eT, c, Bool.false_eq_true], f1, f2, by rw [f3, fb_ct_succ, c]; rfl, fun s hs hf => ?_⟩
        by_cases e : s = i
        · rw [e, c] at hf; cases hf
        · exact f4 s (by omega) hf
      · refine ⟨ph_u (ph_u J 134 (fb_ct (fitB A T sM) i) (nI i)) 64 25 (nI (fb_ct (fitB A T sM) i + 1)), by simp (disch := omega) only [fX0_gathersFit_L7_b, fX0_gathersFit_L53, nL, nI_add, nJ_mul, nJ_div, nJ_mod, nI_leI, nI_ltI, nI_eq, Option.bind_some, Option.bind_none, Nat.one_ne_zero, Nat.zero_ne_one, Nat.zero_add, Nat.add_zero, if_true, if_false, not_true_eq_false, not_false_eq_true, gx_I X, sx_I X, hs1, emn, e8, show ¬ N ≤ i by omega, dx X, eT, c, gx24 X, f3, yx134 X, pu_ne], fun a h1 h2 => by rw [pu_ne h1, pu_ne h2]; exact f1 a h1 h2, fun j hj => by rw [pu_nk hj, pu_ne (by decide)]; exact f2 j hj, by rw [pu_eq, fb_ct_succ, c]; rfl, fun s hs hf => ?_⟩
        rw [pu_ne (by decide), pu_at]
        by_cases e : s = i
        · rw [e, if_pos rfl]
        · have hlt : fb_ct (fitB A T sM) s < fb_ct (fitB A T sM) i := by
            have m := fb_ct_mono (fitB A T sM) (m := s + 1) (n := i) (by omega)
            rw [fb_ct_succ, hf] at m
            simp only [if_true] at m
            omega
          rw [if_neg (by omega)]
          exact f4 s (by omega) hf
    · rintro J ⟨f1, f2, f3, f4⟩
      have hs1 : J 64 1 = nI sM := by rw [f2 1 (by decide)]; exact hsM
      exact ⟨_, by simp (disch := omega) only [fX0_gathersFit_L7_b, nL, nI_add, nJ_mul, nJ_div, nJ_mod, nI_leI, nI_ltI, nI_eq, Option.bind_some, Option.bind_none, Nat.one_ne_zero, Nat.zero_ne_one, Nat.zero_add, Nat.add_zero, if_true, if_false, not_true_eq_false, not_false_eq_true, gx_I X, hs1, emn, e8, Nat.le_refl, xr_s] <;> rfl, J, rfl, f1, f2, f3, f4⟩
  obtain ⟨t, h1, I', rfl, h2⟩ := this
  exact ⟨I', by simp (disch := omega) only [fX0_gathersFit, nL, nI_add, nJ_mul, nJ_div, nJ_mod, nI_leI, nI_ltI, nI_eq, Option.bind_some, Option.bind_none, Nat.one_ne_zero, Nat.zero_ne_one, Nat.zero_add, Nat.add_zero, if_true, if_false, not_true_eq_false, not_false_eq_true, sx_I X, h1], h2⟩
/-- TruthBridge's own rows are written, none of its land's -/
theorem bL.keep' {I' : iF} (B : bL q I L A T sM) (h : ∀ a, a ≠ 64 → a ≠ 134 → I' a = I a) (h2 : ∀ j, j ≠ 25 → I' 64 j = I 64 j) : bL q I' L A T sM := by
  obtain ⟨X, hT, hs, hx, W, h24, hl⟩ := B
  refine ⟨X, hT, by rw [h2 1 (by decide)]; exact hs, by rw [h2 7 (by decide)]; exact hx, W, h24, ?_⟩
  rcases hl with ⟨h1, hR, h3⟩ | hl
  · exact Or.inl ⟨h1, glR_keep W hR (fun a a1 a2 => h a (by omega) (by omega)) (fun _ _ _ => rfl), h3⟩
  · exact Or.inr hl
def all8 (sM : Nat) : Nat := 2 ^ m8_ sM - 1
def stE (A : ld_t) (T : Nat → Nat → Bool) (sM n : Nat) : Nat := fFS (fitB A T sM) (fun s x => x &&& s) (all8 sM) n
def stS (A : ld_t) (T : Nat → Nat → Bool) (sM n : Nat) : Nat := fFS (fitB A T sM) (fun s x => x ||| s) 0 n
theorem J_sets (J : jK q I L A T sM) (hO : trOK A sM) (v : Int32) : jO q I L T sM (fX0_sets 64 v) (fX3_sets 136 v) := by
  obtain ⟨K, B, V⟩ := id J
  obtain ⟨M, RM, hTM, hsM, W, h24⟩ := id K
  have X := B.1
  have m1 := kE_isLandB (L := L) K
  have x2 := xin_lit (v := v) (lo := 0) (hi := 2) (l := 0) (k := 2) (by decide +kernel) (by decide +kernel) (hw q I L)
  have m2 := in_lit (v := v) (lo := 0) (hi := 2) (l := 0) (k := 2) (by decide +kernel) (by decide +kernel) (hw q I L)
  cases c : isL A
  · have hn := (B.none c).1
    exact jO_same J (r := -(nI 1)) (by simp (disch := omega) only [fX0_sets, nL, nI_add, nJ_mul, nJ_div, nJ_mod, nI_leI, nI_ltI, nI_eq, Option.bind_some, Option.bind_none, Nat.one_ne_zero, Nat.zero_ne_one, Nat.zero_add, Nat.add_zero, if_true, if_false, not_true_eq_false, not_false_eq_true, gx2n X hn, nq_0]) (by simp (disch := omega) only [fX3_sets, nL, nI_add, nJ_mul, nJ_div, nJ_mod, nI_leI, nI_ltI, nI_eq, Option.bind_some, Option.bind_none, Nat.one_ne_zero, Nat.zero_ne_one, Nat.zero_add, Nat.add_zero, if_true, if_false, not_true_eq_false, not_false_eq_true, dm M, m1, c, Bool.false_eq_true])
  · obtain ⟨KB, hl⟩ := B.K (isL_iff.mp c)
    cases c2 : inR v 0 2
    · exact jO_same J (r := -(nI 1)) (by simp (disch := omega) only [fX0_sets, nL, nI_add, nJ_mul, nJ_div, nJ_mod, nI_leI, nI_ltI, nI_eq, Option.bind_some, Option.bind_none, Nat.one_ne_zero, Nat.zero_ne_one, Nat.zero_add, Nat.add_zero, if_true, if_false, not_true_eq_false, not_false_eq_true, gx2 X hl, nq_66, x2, c2, Bool.false_eq_true]) (by simp (disch := omega) only [fX3_sets, nL, nI_add, nJ_mul, nJ_div, nJ_mod, nI_leI, nI_ltI, nI_eq, Option.bind_some, Option.bind_none, Nat.one_ne_zero, Nat.zero_ne_one, Nat.zero_add, Nat.add_zero, if_true, if_false, not_true_eq_false, not_false_eq_true, dm M, m1, c, m2, c2, Bool.false_eq_true])
    · have h8 := p2_8 (m8_le (sM := sM))
      have hpos : 0 < 2 ^ m8_ sM := Nat.pos_of_ne_zero (by simp)
      have e8 := nJ_shl (k := m8_ sM) (by have := m8_le (sM := sM); omega)
      rw [nL 1] at e8
      have emn := mn_8 h24
      have hall : nI (2 ^ m8_ sM) - nI 1 = nI (all8 sM) := nJ_sub (by omega)
      have hal : all8 sM + 1 = 2 ^ m8_ sM := by unfold all8; omega
      have hc := fb_ct_lt (fitB A T sM) (2 ^ m8_ sM)
      -- what is answered
      have ans : ∃ r : Int32, r = (if v = nI 0 then nI (fb_ct (fitB A T sM) (2 ^ m8_ sM)) else if fb_ct (fitB A T sM) (2 ^ m8_ sM) = 0 then nI 0 else if v = nI 1 then nI (stE A T sM (2 ^ m8_ sM)) else nI (all8 sM) &&& (nI (stS A T sM (2 ^ m8_ sM)) ^^^ (-(nI 1)))) := ⟨_, rfl⟩
      obtain ⟨r, hr⟩ := ans
      obtain ⟨I1, g1, g2, g3, g4, g5⟩ := bK_gathers (L := L) KB hl hO
      have fX : frX I I1 := ⟨fun a ha => g2 a (by omega) (by omega), fun j _ _ _ h25 _ _ _ => g3 j h25⟩
      have K1 := K.X fX
      refine jO_mk (r := r) (I1 := I1) (L1 := L) ?_ fX frXL.rf (B.keep' g2 g3) V ⟨I1, L, ?_, frT.rf, frTL.rf, K1⟩
      · have arr0 : ∀ s, s < 2 ^ m8_ sM → fitB A T sM s = true → (I1 134 (fb_ct (fitB A T sM) s)).toUInt32.toNat = s := fun s hs hf => by
          rw [g5 s hs hf, nI_un (by omega)]
        obtain ⟨arr, ha⟩ : ∃ arr : Nat → Nat, ∀ j, (I1 134 j).toUInt32.toNat = arr j := ⟨_, fun _ => rfl⟩
        have hI : ∀ j, I1 134 j = nI (arr j) := fun j => by rw [← ha, nI_back]
        simp only [ha] at arr0
        have fE : fo_ (fun j x => x &&& arr j) (all8 sM) (fb_ct (fitB A T sM) (2 ^ m8_ sM)) = stE A T sM (2 ^ m8_ sM) := fFS_arr (f := fun s x => x &&& s) _ arr0
        have fS : fo_ (fun j x => x ||| arr j) 0 (fb_ct (fitB A T sM) (2 ^ m8_ sM)) = stS A T sM (2 ^ m8_ sM) := fFS_arr (f := fun s x => x ||| s) _ arr0
        have lp : fX0_sets_L47 64 v (nI (all8 sM)) (nI (all8 sM)) (nI 0) (nI 0) (hw q I1 L) = some (r, hw q I1 L) := by
          unfold fX0_sets_L47
          refine whl_for (fun j => (nI (fo_ (fun j x => x &&& arr j) (all8 sM) j), nI (fo_ (fun j x => x ||| arr j) 0 j), nI j, hw q I1 L)) (fb_ct (fitB A T sM) (2 ^ m8_ sM)) rfl (fun j hj => ?_) ?_
          · rw [show fo_ (fun j x => x &&& arr j) (all8 sM) (j + 1) = fo_ (fun j x => x &&& arr j) (all8 sM) j &&& arr j from rfl, show fo_ (fun j x => x ||| arr j) 0 (j + 1) = fo_ (fun j x => x ||| arr j) 0 j ||| arr j from rfl]
            simp (disch := omega) only [fX0_sets_L47_b, nm_, nL, nI_add, nJ_mul, nJ_div, nJ_mod, nI_leI, nI_ltI, nI_eq, Option.bind_some, Option.bind_none, Nat.one_ne_zero, Nat.zero_ne_one, Nat.zero_add, Nat.add_zero, if_true, if_false, not_true_eq_false, not_false_eq_true, gx_I X, g4, show ¬ fb_ct (fitB A T sM) (2 ^ m8_ sM) ≤ j by omega, gx24 X, xx134 X, hI, nJ_and, nJ_or]
          · rw [fE, fS]
            rw [hr]
            by_cases v0 : v = nI 0
            · simp (disch := omega) only [fX0_sets_L47_b, nL, nI_add, nJ_mul, nJ_div, nJ_mod, nI_leI, nI_ltI, nI_eq, Option.bind_some, Option.bind_none, Nat.one_ne_zero, Nat.zero_ne_one, Nat.zero_add, Nat.add_zero, if_true, if_false, not_true_eq_false, not_false_eq_true, gx_I X, g4, Nat.le_refl, v0, xr_s]
            · by_cases cn : fb_ct (fitB A T sM) (2 ^ m8_ sM) = 0
              · simp (disch := omega) only [fX0_sets_L47_b, nL, nI_add, nJ_mul, nJ_div, nJ_mod, nI_leI, nI_ltI, nI_eq, Option.bind_some, Option.bind_none, Nat.one_ne_zero, Nat.zero_ne_one, Nat.zero_add, Nat.add_zero, if_true, if_false, not_true_eq_false, not_false_eq_true, gx_I X, g4, Nat.le_refl, v0, cn, xr_s]
              · by_cases v1 : v = nI 1
                · simp (disch := omega) only [fX0_sets_L47_b, nL, nI_add, nJ_mul, nJ_div, nJ_mod, nI_leI, nI_ltI, nI_eq, Option.bind_some, Option.bind_none, Nat.one_ne_zero, Nat.zero_ne_one, Nat.zero_add, Nat.add_zero, if_true, if_false, not_true_eq_false, not_false_eq_true, gx_I X, g4, Nat.le_refl, cn, v1, xr_s]
                · simp (disch := omega) only [fX0_sets_L47_b, nL, nI_add, nJ_mul, nJ_div, nJ_mod, nI_leI, nI_ltI, nI_eq, Option.bind_some, Option.bind_none, Nat.one_ne_zero, Nat.zero_ne_one, Nat.zero_add, Nat.add_zero, if_true, if_false, not_true_eq_false, not_false_eq_true, gx_I X, g4, Nat.le_refl, v0, cn, v1, xr_s]
        have hs1 : I1 64 1 = nI sM := by rw [g3 1 (by decide)]; exact B.2.2.1
        simp (disch := omega) only [fX0_sets, nm_, nL, nI_add, nJ_mul, nJ_div, nJ_mod, nI_leI, nI_ltI, nI_eq, Option.bind_some, Option.bind_none, Nat.one_ne_zero, Nat.zero_ne_one, Nat.zero_add, Nat.add_zero, if_true, if_false, not_true_eq_false, not_false_eq_true, gx2 X hl, nq_66, x2, c2, dx X, g1, gx_I X, hs1, emn, e8, hall, lp]
      · have m1 := kE_isLandB (L := L) K1
        have m2 := in_lit (v := v) (lo := 0) (hi := 2) (l := 0) (k := 2) (by decide +kernel) (by decide +kernel) (hw q I1 L)
        have m3 := kE_firstOnes (L := L) K1
        have lp : fX3_sets_L41 136 v (nI (all8 sM)) (nI 0) (nI (all8 sM)) (nI 0) (nI 0) (hw q I1 L) = some (r, hw q I1 L) := by
          unfold fX3_sets_L41
          refine whl_for (fun i => (nI (fb_ct (fitB A T sM) i), nI (stE A T sM i), nI (stS A T sM i), nI i, hw q I1 L)) (2 ^ m8_ sM) rfl (fun i hi => ?_) ?_
          · have eF := kE_doesFit (L := L) K1 hO (set := i)
            have hc := fb_ct_lt (fitB A T sM) i
            unfold stE stS
            rw [fb_ct_succ]
            cases cf : fitB A T sM i
            · rw [fFS_0 cf, fFS_0 cf]
              simp (disch := omega) only [fX3_sets_L41_b, fX3_sets_L73, nm_, nL, nI_add, nJ_mul, nJ_div, nJ_mod, nI_leI, nI_ltI, nI_eq, Option.bind_some, Option.bind_none, Nat.one_ne_zero, Nat.zero_ne_one, Nat.zero_add, Nat.add_zero, if_true, if_false, not_true_eq_false, not_false_eq_true, show ¬ all8 sM < i by omega, dm M, eF, cf, Bool.false_eq_true]
            · rw [fFS_1 cf, fFS_1 cf]
              simp (disch := omega) only [fX3_sets_L41_b, fX3_sets_L73, nm_, nL, nI_add, nJ_mul, nJ_div, nJ_mod, nI_leI, nI_ltI, nI_eq, Option.bind_some, Option.bind_none, Nat.one_ne_zero, Nat.zero_ne_one, Nat.zero_add, Nat.add_zero, if_true, if_false, not_true_eq_false, not_false_eq_true, show ¬ all8 sM < i by omega, dm M, eF, cf, nJ_and, nJ_or]
          · rw [hr]
            by_cases v0 : v = nI 0
            · simp (disch := omega) only [fX3_sets_L41_b, nL, nI_add, nJ_mul, nJ_div, nJ_mod, nI_leI, nI_ltI, nI_eq, Option.bind_some, Option.bind_none, Nat.one_ne_zero, Nat.zero_ne_one, Nat.zero_add, Nat.add_zero, if_true, if_false, not_true_eq_false, not_false_eq_true, show all8 sM < 2 ^ m8_ sM by omega, v0, xr_s]
            · by_cases cn : fb_ct (fitB A T sM) (2 ^ m8_ sM) = 0
              · simp (disch := omega) only [fX3_sets_L41_b, nL, nI_add, nJ_mul, nJ_div, nJ_mod, nI_leI, nI_ltI, nI_eq, Option.bind_some, Option.bind_none, Nat.one_ne_zero, Nat.zero_ne_one, Nat.zero_add, Nat.add_zero, if_true, if_false, not_true_eq_false, not_false_eq_true, show all8 sM < 2 ^ m8_ sM by omega, v0, cn, xr_s]
              · by_cases v1 : v = nI 1
                · simp (disch := omega) only [fX3_sets_L41_b, nL, nI_add, nJ_mul, nJ_div, nJ_mod, nI_leI, nI_ltI, nI_eq, Option.bind_some, Option.bind_none, Nat.one_ne_zero, Nat.zero_ne_one, Nat.zero_add, Nat.add_zero, if_true, if_false, not_true_eq_false, not_false_eq_true, show all8 sM < 2 ^ m8_ sM by omega, cn, v1, xr_s]
                · simp (disch := omega) only [fX3_sets_L41_b, nL, nI_add, nJ_mul, nJ_div, nJ_mod, nI_leI, nI_ltI, nI_eq, Option.bind_some, Option.bind_none, Nat.one_ne_zero, Nat.zero_ne_one, Nat.zero_add, Nat.add_zero, if_true, if_false, not_true_eq_false, not_false_eq_true, show all8 sM < 2 ^ m8_ sM by omega, v0, cn, v1, xr_s]
        simp (disch := omega) only [fX3_sets, nm_, nL, nI_add, nJ_mul, nJ_div, nJ_mod, nI_leI, nI_ltI, nI_eq, Option.bind_some, Option.bind_none, Nat.one_ne_zero, Nat.zero_ne_one, Nat.zero_add, Nat.add_zero, if_true, if_false, not_true_eq_false, not_false_eq_true, dm M, m1, c, m2, c2, m3, e8, hall, lp]
end JH
