/-! P2 JG: both answer: the least -/
/-- the best saying so far -/
def lsB (A : ld_t) (T : Nat → Nat → Bool) (p s : Nat) (b : Option Nat) : Option Nat := if a_gets A T p s = true then (match b with
  | none => some s
  | some k => if gn_ (lH A 6) (T s) < gn_ (lH A 6) (T k) then some s else some k) else b
def lsF (A : ld_t) (T : Nat → Nat → Bool) (p n : Nat) : Option Nat := fo_ (lsB A T p) none n
theorem lsF_lt {A : ld_t} {T : Nat → Nat → Bool} {p n : Nat} : ∀ k, lsF A T p n = some k → k < n := by
  induction n with
  | zero => intro k h; cases h
  | succ n ih =>
    intro k h
    have h : lsB A T p n (lsF A T p n) = some k := h
    unfold lsB at h
    by_cases c : a_gets A T p n = true
    · rw [if_pos c] at h
      cases e : lsF A T p n with
      | none => rw [e] at h; cases h; omega
      | some j =>
        rw [e] at h
        have := ih j e
        by_cases d : gn_ (lH A 6) (T n) < gn_ (lH A 6) (T j)
        · simp only [d, if_true] at h
          cases h; omega
        · simp only [d, if_false] at h
          cases h; omega
    · rw [if_neg c] at h
      have := ih k h
      omega
theorem lsB_0 {A : ld_t} {T : Nat → Nat → Bool} {p s : Nat} {b : Option Nat} (h : a_gets A T p s = false) : lsB A T p s b = b := if_neg (by rw [h]; decide)
theorem lsB_n {A : ld_t} {T : Nat → Nat → Bool} {p s : Nat} (h : a_gets A T p s = true) : lsB A T p s none = some s := if_pos h
theorem lsB_s {A : ld_t} {T : Nat → Nat → Bool} {p s k : Nat} (h : a_gets A T p s = true) (c : gn_ (lH A 6) (T s) < gn_ (lH A 6) (T k)) : lsB A T p s (some k) = some s := (if_pos h).trans (if_pos c)
theorem lsB_k {A : ld_t} {T : Nat → Nat → Bool} {p s k : Nat} (h : a_gets A T p s = true) (c : ¬ gn_ (lH A 6) (T s) < gn_ (lH A 6) (T k)) : lsB A T p s (some k) = some k := (if_pos h).trans (if_neg c)
section JG
variable {q : ph_t} {I : iF} {L : lF_} {A : ld_t} {T : Nat → Nat → Bool} {sM : Nat}
theorem kE_keepsAll (K : mK q I A T sM) : ∃ I', fX3_keepsAll 136 (hw q I L) = some ((), hw q I' L) ∧ frT I I' ∧ (∀ c, c ≠ 188 → c ≠ 180 → c ≠ 136 → I' c = I c) ∧ (∀ j, j ≠ 75 → j ≠ 76 → I' 136 j = I 136 j) ∧ mlR (mlI I' 4) A ∧ mK q I' A T sM := by
  have M := K.1
  obtain ⟨I', e1, e2, e3, e4, e5, e6⟩ := kE_carF (L := L) K (k := 4) (by decide)
  refine ⟨I', by simp (disch := omega) only [fX3_keepsAll, nL, nI_add, nJ_mul, nJ_div, nJ_mod, nI_leI, nI_ltI, nI_eq, Option.bind_some, Option.bind_none, Nat.one_ne_zero, Nat.zero_ne_one, Nat.zero_add, Nat.add_zero, if_true, if_false, not_true_eq_false, not_false_eq_true, dm M, e1], ⟨fun a ha => e2 a (by omega) (by omega) (by omega), fun j hj => e4 j (by omega), fun j hj => e3 j (by omega) (by omega)⟩, e2, e3, e5, e6⟩
theorem kE_laysBack {B : ld_t} (K : mK q I B T sM) (RA : mlR (mlI I 4) A) (W : lW A) : ∃ I', fX3_laysBack 136 (hw q I L) = some ((), hw q I' L) ∧ frT I I' ∧ (∀ c, (c < 136 ∨ (151 < c ∧ c < 179) ∨ 180 < c) → I' c = I c) ∧ (∀ j, j ≠ 59 → j ≠ 75 → j ≠ 76 → I' 136 j = I 136 j) ∧ mK q I' A T sM := by
  have M := K.1
  obtain ⟨I', e1, e2, e3, e4⟩ := kE_carT (L := L) K (k := 4) (by decide) RA W
  refine ⟨I', by simp (disch := omega) only [fX3_laysBack, nL, nI_add, nJ_mul, nJ_div, nJ_mod, nI_leI, nI_ltI, nI_eq, Option.bind_some, Option.bind_none, Nat.one_ne_zero, Nat.zero_ne_one, Nat.zero_add, Nat.add_zero, if_true, if_false, not_true_eq_false, not_false_eq_true, dm M, e1], frT_row (fun a h1 h2 => e2 a (by omega)) (fun j hj => e3 j (by omega) (by omega) (by omega)), e2, e3, e4⟩
theorem mlI_eq {I I' : iF} {k : Nat} (h : I' 188 = I 188) : mlI I' k = mlI I k := by
  unfold mlI
  rw [h]
/-- how many others have a way, once the bridge is told -/
def lsC (A A1 : ld_t) (T : Nat → Nat → Bool) (sM p : Nat) : Nat → Bool := fun o => decide (¬ o = p) && (decide (lA A 2 o = lA A 2 p) && a_can A1 T sM o)
theorem kE_least103 {A1 : ld_t} (K : mK q I A1 T sM) (RA : mlR (mlI I 4) A) (W : lW A) (hA : ∀ f i, lA A1 f i = lA A f i) {p : Nat} (hp : p < lA A 1 2) : ∃ I', fX3_least_L103 136 (nI p) (nI 0) (nI 0) (hw q I L) = some (nI (fb_ct (lsC A A1 T sM p) (lA A 1 2)), hw q I' L) ∧ frT I I' ∧ mK q I' A T sM := by
  obtain ⟨I', e1, e2, -, -, e3⟩ := kE_laysBack (L := L) K RA W
  refine ⟨I', ?_, e2, e3⟩
  obtain ⟨M, R, -⟩ := id K
  have w2 := W.1.2.2.1
  have hp2 := (W.2.1 p hp).1
  have r1 : I 137 2 = nI (lA A 1 2) := by rw [← hA]; exact rm1 R (by decide)
  have r2 : ∀ o, o < lA A 1 2 → I 138 o = nI (lA A 2 o) := fun o ho => by rw [← hA]; exact rm2 R (by rw [hA]; exact ho)
  unfold fX3_least_L103
  generalize hP : lsC A A1 T sM p = P
  refine whl_for (fun i => (nI (fb_ct P i), nI i, hw q I L)) (lA A 1 2) rfl (fun i hi => ?_) ?_
  · have ho2 := (W.2.1 i hi).1
    have eP : P i = (decide (¬ i = p) && (decide (lA A 2 i = lA A 2 p) && a_can A1 T sM i)) := by rw [← hP]; rfl
    have eC := kE_can (L := L) K (p := i) (by rw [hA]; exact hi)
    by_cases c1 : i = p
    · have e : P i = false := by rw [eP, decide_eq_false (fun z => z c1), Bool.false_and]
      rw [fb_ct_succ, e]
      subst c1
      simp (disch := omega) only [fX3_least_L103_b, fX3_least_L151, fX3_least_L152, nm_, nL, nI_add, nJ_mul, nJ_div, nJ_mod, nI_leI, nI_ltI, nI_eq, Option.bind_some, Option.bind_none, Nat.one_ne_zero, Nat.zero_ne_one, Nat.zero_add, Nat.add_zero, if_true, if_false, not_true_eq_false, not_false_eq_true, gm1 M, xm137 M, r1, show ¬ lA A 1 2 ≤ i by omega, Bool.false_eq_true]
    · by_cases c2 : lA A 2 i = lA A 2 p
      · cases c3 : a_can A1 T sM i
        · have e : P i = false := by rw [eP, c3, Bool.and_false, Bool.and_false]
          rw [fb_ct_succ, e]
          simp (disch := omega) only [fX3_least_L103_b, fX3_least_L151, fX3_least_L152, nm_, nL, nI_add, nJ_mul, nJ_div, nJ_mod, nI_leI, nI_ltI, nI_eq, Option.bind_some, Option.bind_none, Nat.one_ne_zero, Nat.zero_ne_one, Nat.zero_add, Nat.add_zero, if_true, if_false, not_true_eq_false, not_false_eq_true, gm1 M, xm137 M, r1, show ¬ lA A 1 2 ≤ i by omega, c1, gm2 M, xm138 M, r2 i hi, r2 p hp, c2, dm M, eC, c3, Bool.false_eq_true]
        · have e : P i = true := by rw [eP, c3, decide_eq_true c1, decide_eq_true c2]; rfl
          rw [fb_ct_succ, e]
          simp (disch := omega) only [fX3_least_L103_b, fX3_least_L151, fX3_least_L152, nm_, nL, nI_add, nJ_mul, nJ_div, nJ_mod, nI_leI, nI_ltI, nI_eq, Option.bind_some, Option.bind_none, Nat.one_ne_zero, Nat.zero_ne_one, Nat.zero_add, Nat.add_zero, if_true, if_false, not_true_eq_false, not_false_eq_true, gm1 M, xm137 M, r1, show ¬ lA A 1 2 ≤ i by omega, c1, gm2 M, xm138 M, r2 i hi, r2 p hp, c2, dm M, eC, c3]
      · have e : P i = false := by rw [eP, decide_eq_false c2, Bool.false_and, Bool.and_false]
        rw [fb_ct_succ, e]
        simp (disch := omega) only [fX3_least_L103_b, fX3_least_L151, fX3_least_L152, nm_, nL, nI_add, nJ_mul, nJ_div, nJ_mod, nI_leI, nI_ltI, nI_eq, Option.bind_some, Option.bind_none, Nat.one_ne_zero, Nat.zero_ne_one, Nat.zero_add, Nat.add_zero, if_true, if_false, not_true_eq_false, not_false_eq_true, gm1 M, xm137 M, r1, show ¬ lA A 1 2 ≤ i by omega, c1, gm2 M, xm138 M, r2 i hi, r2 p hp, c2, Bool.false_eq_true]
  · simp (disch := omega) only [fX3_least_L103_b, nL, nI_add, nJ_mul, nJ_div, nJ_mod, nI_leI, nI_ltI, nI_eq, Option.bind_some, Option.bind_none, Nat.one_ne_zero, Nat.zero_ne_one, Nat.zero_add, Nat.add_zero, if_true, if_false, not_true_eq_false, not_false_eq_true, gm1 M, xm137 M, r1, Nat.le_refl, dm M, e1, xr_s]
theorem bK_least66 {A1 : ld_t} (K : bK q 66 I L A T sM) (hl : ph_R q 64 2 = some 66) (K1 : bK q 80 I L A1 T sM) (hA : ∀ f i, lA A1 f i = lA A f i) {p : Nat} (hp : p < lA A 1 2) : fX0_least_L66 64 (nI p) (some 80) (nI 0) (nI 0) (hw q I L) = some (nI (fb_ct (lsC A A1 T sM p) (lA A 1 2)), hw q I L) := by
  obtain ⟨X, G, R, hT, hsM, W, h24, -⟩ := id K
  obtain ⟨-, G1, R1, -⟩ := id K1
  have w2 := W.1.2.2.1
  have hp2 := (W.2.1 p hp).1
  have r1 : I 80 2 = nI (lA A 1 2) := by rw [← hA]; exact R1.f2
  have s9 : gR (hw q I L) (some 80) 1 9 = some (some 81) := gg9 G1
  have t9 : ∀ o, o < 6 → xI (hw q I L) (some 81) 20 (nI o) = some (I 81 o) := fun o ho => xg9 G1 ho
  have r2 : ∀ o, o < lA A 1 2 → I 81 o = nI (lA A 2 o) := fun o ho => by rw [← hA]; exact R1.p1 (by rw [hA]; exact ho)
  unfold fX0_least_L66
  generalize hP : lsC A A1 T sM p = P
  refine whl_for (fun i => (nI (fb_ct P i), nI i, hw q I L)) (lA A 1 2) rfl (fun i hi => ?_) ?_
  · have ho2 := (W.2.1 i hi).1
    have eP : P i = (decide (¬ i = p) && (decide (lA A 2 i = lA A 2 p) && a_can A1 T sM i)) := by rw [← hP]; rfl
    have eC := bK_hasWay (L := L) K1 (p := i) (by rw [hA]; exact hi)
    by_cases c1 : i = p
    · have e : P i = false := by rw [eP, decide_eq_false (fun z => z c1), Bool.false_and]
      rw [fb_ct_succ, e]
      subst c1
      simp (disch := omega) only [fX0_least_L66_b, fX0_least_L119, fX0_least_L120, nm_, nL, nI_add, nJ_mul, nJ_div, nJ_mod, nI_leI, nI_ltI, nI_eq, Option.bind_some, Option.bind_none, Nat.one_ne_zero, Nat.zero_ne_one, Nat.zero_add, Nat.add_zero, if_true, if_false, not_true_eq_false, not_false_eq_true, gg_I G1, r1, show ¬ lA A 1 2 ≤ i by omega, Bool.false_eq_true]
    · by_cases c2 : lA A 2 i = lA A 2 p
      · cases c3 : a_can A1 T sM i
        · have e : P i = false := by rw [eP, c3, Bool.and_false, Bool.and_false]
          rw [fb_ct_succ, e]
          simp (disch := omega) only [fX0_least_L66_b, fX0_least_L119, fX0_least_L120, nm_, nL, nI_add, nJ_mul, nJ_div, nJ_mod, nI_leI, nI_ltI, nI_eq, Option.bind_some, Option.bind_none, Nat.one_ne_zero, Nat.zero_ne_one, Nat.zero_add, Nat.add_zero, if_true, if_false, not_true_eq_false, not_false_eq_true, gg_I G1, r1, show ¬ lA A 1 2 ≤ i by omega, c1, s9, t9, r2 i hi, gx2 X hl, gl9 G, xl9 G, rl1 R, c2, dx X, eC, c3, Bool.false_eq_true]
        · have e : P i = true := by rw [eP, c3, decide_eq_true c1, decide_eq_true c2]; rfl
          rw [fb_ct_succ, e]
          simp (disch := omega) only [fX0_least_L66_b, fX0_least_L119, fX0_least_L120, nm_, nL, nI_add, nJ_mul, nJ_div, nJ_mod, nI_leI, nI_ltI, nI_eq, Option.bind_some, Option.bind_none, Nat.one_ne_zero, Nat.zero_ne_one, Nat.zero_add, Nat.add_zero, if_true, if_false, not_true_eq_false, not_false_eq_true, gg_I G1, r1, show ¬ lA A 1 2 ≤ i by omega, c1, s9, t9, r2 i hi, gx2 X hl, gl9 G, xl9 G, rl1 R, c2, dx X, eC, c3]
      · have e : P i = false := by rw [eP, decide_eq_false c2, Bool.false_and, Bool.and_false]
        rw [fb_ct_succ, e]
        simp (disch := omega) only [fX0_least_L66_b, fX0_least_L119, fX0_least_L120, nm_, nL, nI_add, nJ_mul, nJ_div, nJ_mod, nI_leI, nI_ltI, nI_eq, Option.bind_some, Option.bind_none, Nat.one_ne_zero, Nat.zero_ne_one, Nat.zero_add, Nat.add_zero, if_true, if_false, not_true_eq_false, not_false_eq_true, gg_I G1, r1, show ¬ lA A 1 2 ≤ i by omega, c1, s9, t9, r2 i hi, gx2 X hl, gl9 G, xl9 G, rl1 R, c2, Bool.false_eq_true]
  · simp (disch := omega) only [fX0_least_L66_b, nL, nI_add, nJ_mul, nJ_div, nJ_mod, nI_leI, nI_ltI, nI_eq, Option.bind_some, Option.bind_none, Nat.one_ne_zero, Nat.zero_ne_one, Nat.zero_add, Nat.add_zero, if_true, if_false, not_true_eq_false, not_false_eq_true, gg_I G1, r1, Nat.le_refl, xr_s]
theorem bK_leastOf (K : bK q 66 I L A T sM) (hl : ph_R q 64 2 = some 66) {p : Nat} (hp : p < lA A 1 2) : fX0_leastOf 64 (nI p) (hw q I L) = some (enO (lsF A T p sM), hw q I L) := by
  obtain ⟨X, G, R, hT, hsM, W, h24, -⟩ := id K
  unfold fX0_leastOf fX0_leastOf_L5
  rw [show (-2 : Int32) = enO (lsF A T p 0) from rfl]
  refine whl_for (fun i => (enO (lsF A T p i), nI i, hw q I L)) sM rfl (fun i hi => ?_) ?_
  · have eC := bK_canCross (L := L) K hp hi
    have hk := lsF_lt (A := A) (T := T) (p := p) (n := i)
    have g1 := bE_gainOf (L := L) X G R hT W hi h24
    have b1 := gn_le (H := lH A 6) (B := T i)
    rw [show lsF A T p (i + 1) = lsB A T p i (lsF A T p i) from rfl]
    generalize lsF A T p i = b at hk
    cases c : a_gets A T p i
    · rw [lsB_0 c]
      simp (disch := omega) only [fX0_leastOf_L5_b, fX0_leastOf_L58, nL, nI_add, nJ_mul, nJ_div, nJ_mod, nI_leI, nI_ltI, nI_eq, Option.bind_some, Option.bind_none, Nat.one_ne_zero, Nat.zero_ne_one, Nat.zero_add, Nat.add_zero, if_true, if_false, not_true_eq_false, not_false_eq_true, gx_I X, hsM, show ¬ sM ≤ i by omega, gx2 X hl, dx X, eC, c, Bool.false_eq_true]
    · cases b with
      | none =>
        rw [lsB_n c]
        simp (disch := omega) only [fX0_leastOf_L5_b, fX0_leastOf_L58, fX0_leastOf_L56, nL, nI_add, nJ_mul, nJ_div, nJ_mod, nI_leI, nI_ltI, nI_eq, Option.bind_some, Option.bind_none, Nat.one_ne_zero, Nat.zero_ne_one, Nat.zero_add, Nat.add_zero, if_true, if_false, not_true_eq_false, not_false_eq_true, gx_I X, hsM, show ¬ sM ≤ i by omega, gx2 X hl, dx X, eC, c, enO_n, enO_s]
      | some k =>
        have hk := hk k rfl
        have g2 := bE_gainOf (L := L) X G R hT W (s := k) (by omega) h24
        have b2 := gn_le (H := lH A 6) (B := T k)
        have e2 := nI_m2 (p := k) (by omega)
        by_cases d : gn_ (lH A 6) (T i) < gn_ (lH A 6) (T k)
        · rw [lsB_s c d]
          simp (disch := omega) only [fX0_leastOf_L5_b, fX0_leastOf_L58, fX0_leastOf_L56, nL, nI_add, nJ_mul, nJ_div, nJ_mod, nI_leI, nI_ltI, nI_eq, Option.bind_some, Option.bind_none, Nat.one_ne_zero, Nat.zero_ne_one, Nat.zero_add, Nat.add_zero, if_true, if_false, not_true_eq_false, not_false_eq_true, gx_I X, hsM, show ¬ sM ≤ i by omega, gx2 X hl, dx X, eC, c, enO_s, e2, g1, g2, show ¬ gn_ (lH A 6) (T k) ≤ gn_ (lH A 6) (T i) by omega]
        · rw [lsB_k c d]
          simp (disch := omega) only [fX0_leastOf_L5_b, fX0_leastOf_L58, fX0_leastOf_L56, nL, nI_add, nJ_mul, nJ_div, nJ_mod, nI_leI, nI_ltI, nI_eq, Option.bind_some, Option.bind_none, Nat.one_ne_zero, Nat.zero_ne_one, Nat.zero_add, Nat.add_zero, if_true, if_false, not_true_eq_false, not_false_eq_true, gx_I X, hsM, show ¬ sM ≤ i by omega, gx2 X hl, dx X, eC, c, enO_s, e2, g1, g2, show gn_ (lH A 6) (T k) ≤ gn_ (lH A 6) (T i) by omega]
  · simp (disch := omega) only [fX0_leastOf_L5_b, nL, nI_add, nJ_mul, nJ_div, nJ_mod, nI_leI, nI_ltI, nI_eq, Option.bind_some, Option.bind_none, Nat.one_ne_zero, Nat.zero_ne_one, Nat.zero_add, Nat.add_zero, if_true, if_false, not_true_eq_false, not_false_eq_true, gx_I X, hsM, Nat.le_refl, xr_s]
/-- the model's row of sayings, up to its end -/
theorem kE_least26 (K : mK q I A T sM) {p : Nat} (hp : p < lA A 1 2) (w : Int32) : fX3_least_L26 136 (nI p) w (-(nI 2)) (nI 0) (hw q I L) = whl (fun s => fX3_least_L26_b 136 (nI p) w s.1 s.2.1 s.2.2) (enO (lsF A T p sM), nI sM, hw q I L) := by
  obtain ⟨M, R, hT, hsM, W, h24⟩ := id K
  unfold fX3_least_L26
  refine whl_to (f := fun s : Int32 × Int32 × ph_t => fX3_least_L26_b 136 (nI p) w s.1 s.2.1 s.2.2) (fun i => (enO (lsF A T p i), nI i, hw q I L)) sM (fun i hi => ?_)
  have eC := kE_getsOver (L := L) K hp hi
  have hk := lsF_lt (A := A) (T := T) (p := p) (n := i)
  have g1 := mE_gainOf (L := L) M R hT W hi h24
  have b1 := gn_le (H := lH A 6) (B := T i)
  rw [show lsF A T p (i + 1) = lsB A T p i (lsF A T p i) from rfl]
  generalize lsF A T p i = b at hk
  cases c : a_gets A T p i
  · rw [lsB_0 c]
    simp (disch := omega) only [fX3_least_L26_b, fX3_least_L68, nL, nI_add, nJ_mul, nJ_div, nJ_mod, nI_leI, nI_ltI, nI_eq, Option.bind_some, Option.bind_none, Nat.one_ne_zero, Nat.zero_ne_one, Nat.zero_add, Nat.add_zero, if_true, if_false, not_true_eq_false, not_false_eq_true, gm_I M, hsM, show ¬ sM ≤ i by omega, dm M, eC, c, Bool.false_eq_true]
  · cases b with
    | none =>
      rw [lsB_n c]
      simp (disch := omega) only [fX3_least_L26_b, fX3_least_L68, fX3_least_L65, nL, nI_add, nJ_mul, nJ_div, nJ_mod, nI_leI, nI_ltI, nI_eq, Option.bind_some, Option.bind_none, Nat.one_ne_zero, Nat.zero_ne_one, Nat.zero_add, Nat.add_zero, if_true, if_false, not_true_eq_false, not_false_eq_true, gm_I M, hsM, show ¬ sM ≤ i by omega, dm M, eC, c, enO_n, enO_s]
    | some k =>
      have hk := hk k rfl
      have g2 := mE_gainOf (L := L) M R hT W (s := k) (by omega) h24
      have b2 := gn_le (H := lH A 6) (B := T k)
      have e2 := nI_m2 (p := k) (by omega)
      by_cases d : gn_ (lH A 6) (T i) < gn_ (lH A 6) (T k)
      · rw [lsB_s c d]
        simp (disch := omega) only [fX3_least_L26_b, fX3_least_L68, fX3_least_L65, nL, nI_add, nJ_mul, nJ_div, nJ_mod, nI_leI, nI_ltI, nI_eq, Option.bind_some, Option.bind_none, Nat.one_ne_zero, Nat.zero_ne_one, Nat.zero_add, Nat.add_zero, if_true, if_false, not_true_eq_false, not_false_eq_true, gm_I M, hsM, show ¬ sM ≤ i by omega, dm M, eC, c, enO_s, e2, g1, g2, show ¬ gn_ (lH A 6) (T k) ≤ gn_ (lH A 6) (T i) by omega]
      · rw [lsB_k c d]
        simp (disch := omega) only [fX3_least_L26_b, fX3_least_L68, fX3_least_L65, nL, nI_add, nJ_mul, nJ_div, nJ_mod, nI_leI, nI_ltI, nI_eq, Option.bind_some, Option.bind_none, Nat.one_ne_zero, Nat.zero_ne_one, Nat.zero_add, Nat.add_zero, if_true, if_false, not_true_eq_false, not_false_eq_true, gm_I M, hsM, show ¬ sM ≤ i by omega, dm M, eC, c, enO_s, e2, g1, g2, show gn_ (lH A 6) (T k) ≤ gn_ (lH A 6) (T i) by omega]
theorem J_least (J : jK q I L A T sM) (v w : Int32) : jO q I L T sM (fX0_least 64 v w) (fX3_least 136 v w) := by
  obtain ⟨K, B, V⟩ := id J
  obtain ⟨M, RM, hTM, hsM, W, h24⟩ := id K
  have X := B.1
  have w2 := W.1.2.2.1
  have x1 := bL_isPerson B v
  have m1 := kE_isPerson (L := L) K v
  have x2 := xin_lit (v := w) (lo := 0) (hi := 1) (l := 0) (k := 1) (by decide +kernel) (by decide +kernel) (hw q I L)
  have m2 := in_lit (v := w) (lo := 0) (hi := 1) (l := 0) (k := 1) (by decide +kernel) (by decide +kernel) (hw q I L)
  cases c : inB v (lA A 1 2)
  · exact jO_same J (r := -(nI 1)) (by simp (disch := omega) only [fX0_least, nL, nI_add, nJ_mul, nJ_div, nJ_mod, nI_leI, nI_ltI, nI_eq, Option.bind_some, Option.bind_none, Nat.one_ne_zero, Nat.zero_ne_one, Nat.zero_add, Nat.add_zero, if_true, if_false, not_true_eq_false, not_false_eq_true, dx X, x1, c, Bool.false_eq_true]) (by simp (disch := omega) only [fX3_least, nL, nI_add, nJ_mul, nJ_div, nJ_mod, nI_leI, nI_ltI, nI_eq, Option.bind_some, Option.bind_none, Nat.one_ne_zero, Nat.zero_ne_one, Nat.zero_add, Nat.add_zero, if_true, if_false, not_true_eq_false, not_false_eq_true, dm M, m1, c, Bool.false_eq_true])
  · cases c2 : inR w 0 1
    · exact jO_same J (r := -(nI 1)) (by simp (disch := omega) only [fX0_least, nL, nI_add, nJ_mul, nJ_div, nJ_mod, nI_leI, nI_ltI, nI_eq, Option.bind_some, Option.bind_none, Nat.one_ne_zero, Nat.zero_ne_one, Nat.zero_add, Nat.add_zero, if_true, if_false, not_true_eq_false, not_false_eq_true, dx X, x1, c, x2, c2, Bool.false_eq_true]) (by simp (disch := omega) only [fX3_least, nL, nI_add, nJ_mul, nJ_div, nJ_mod, nI_leI, nI_ltI, nI_eq, Option.bind_some, Option.bind_none, Nat.one_ne_zero, Nat.zero_ne_one, Nat.zero_add, Nat.add_zero, if_true, if_false, not_true_eq_false, not_false_eq_true, dm M, m1, c, m2, c2, Bool.false_eq_true])
    · obtain ⟨p, hp, rfl⟩ := inB_of c (by omega)
      have h0 := B.pos (j := 2) (by decide) (by omega)
      obtain ⟨KB, hl⟩ := B.K h0
      obtain ⟨-, G, R, -⟩ := id KB
      have e1 := bK_leastOf (L := L) KB hl hp
      have e2 := kE_least26 (L := L) K hp w
      have hk := lsF_lt (A := A) (T := T) (p := p) (n := sM)
      have mm : fX3_least 136 (nI p) w (hw q I L) = fX3_least_L26 136 (nI p) w (-(nI 2)) (nI 0) (hw q I L) := by
        simp (disch := omega) only [fX3_least, nL, nI_add, nJ_mul, nJ_div, nJ_mod, nI_leI, nI_ltI, nI_eq, Option.bind_some, Option.bind_none, Nat.one_ne_zero, Nat.zero_ne_one, Nat.zero_add, Nat.add_zero, if_true, if_false, not_true_eq_false, not_false_eq_true, dm M, m1, c, m2, c2]
      generalize hb : lsF A T p sM = b at e1 e2 hk
      cases b with
      | none =>
        refine jO_same J (r := -(nI 2)) (by simp (disch := omega) only [fX0_least, nL, nI_add, nJ_mul, nJ_div, nJ_mod, nI_leI, nI_ltI, nI_eq, Option.bind_some, Option.bind_none, Nat.one_ne_zero, Nat.zero_ne_one, Nat.zero_add, Nat.add_zero, if_true, if_false, not_true_eq_false, not_false_eq_true, dx X, x1, c, x2, c2, e1, enO_n]) ?_
        rw [mm, e2]
        refine whl_end ?_
        simp (disch := omega) only [fX3_least_L26_b, nL, nI_add, nJ_mul, nJ_div, nJ_mod, nI_leI, nI_ltI, nI_eq, Option.bind_some, Option.bind_none, Nat.one_ne_zero, Nat.zero_ne_one, Nat.zero_add, Nat.add_zero, if_true, if_false, not_true_eq_false, not_false_eq_true, gm_I M, hsM, Nat.le_refl, enO_n, xr_s]
      | some k =>
        have hk := hk k rfl
        have em := nI_m2 (p := k) (by omega)
        by_cases c3 : w = nI 0
        · subst c3
          refine jO_same J (r := nI k) (by simp (disch := omega) only [fX0_least, nL, nI_add, nJ_mul, nJ_div, nJ_mod, nI_leI, nI_ltI, nI_eq, Option.bind_some, Option.bind_none, Nat.one_ne_zero, Nat.zero_ne_one, Nat.zero_add, Nat.add_zero, if_true, if_false, not_true_eq_false, not_false_eq_true, dx X, x1, c, x2, c2, e1, enO_s, em]) ?_
          rw [mm, e2]
          refine whl_end ?_
          simp (disch := omega) only [fX3_least_L26_b, nL, nI_add, nJ_mul, nJ_div, nJ_mod, nI_leI, nI_ltI, nI_eq, Option.bind_some, Option.bind_none, Nat.one_ne_zero, Nat.zero_ne_one, Nat.zero_add, Nat.add_zero, if_true, if_false, not_true_eq_false, not_false_eq_true, gm_I M, hsM, Nat.le_refl, enO_s, em, xr_s]
        · obtain ⟨I1, L1, a1, a2, a3, a4⟩ := bK_copies (L := L) KB X.spare (by decide) (by decide)
          have KB1 := KB.off (g' := 80) (by decide) (by decide) a2 a3
          obtain ⟨L2, b1, b2, b3⟩ := bK_isTold (L := L1) a4 (who := 6) (Or.inr rfl) hk
          have KB2 := KB1.off (g' := 80) (by decide) (by decide) frG.rf b2.fr
          have b4 := bK_least66 (L := L2) KB2 hl b3 (fun _ _ => rfl) hp
          have fX : frX I I1 := a2.X (Or.inr rfl)
          have fL : frXL L L2 := (a3.X (Or.inr rfl)).tr (b2.fr.X (Or.inr rfl))
          have K2 := K.X fX
          obtain ⟨I3, d1, d2, d3, d4, d5, d6⟩ := kE_keepsAll (L := L2) K2
          obtain ⟨I4, d7, d8, d9⟩ := mE_isTold (L := L2) M d6.2.1 d6.2.2.1 W (who := 6) (Or.inr rfl) hk h24
          have K4 := d6.next d8.fr d9 b3.2.2.2.2.2.1
          obtain ⟨I5, g1, g2, g3⟩ := kE_least103 (L := L2) (A := A) K4 (by rw [mlI_eq (d8.1 188 (by decide))]; exact d5) W (fun _ _ => rfl) hp
          have e2' := kE_least26 (L := L2) K2 hp w
          have m1 := kE_isPerson (L := L2) K2 (nI p)
          have m2 := in_lit (v := w) (lo := 0) (hi := 1) (l := 0) (k := 1) (by decide +kernel) (by decide +kernel) (hw q I1 L2)
          have x3 : gR (hw q I L) (some 64) 0 4 = some (some 80) := gx4 X
          have x4 : dv_ (hw q I L) (some 80) 1 = some 80 := dg X.spare
          refine jO_mk (r := nI (fb_ct (lsC A (lHs A 6 (fun w => lH A 6 w && T k w)) T sM p) (lA A 1 2))) (I1 := I1) (L1 := L2) ?_ fX fL (KB2.toL hl h0 (by rw [a2 64 (by omega)]; exact B.2.2.2.1)) V ⟨I5, L2, ?_, (d2.tr d8.fr.T).tr g2, frTL.rf, g3⟩
          · simp (disch := omega) only [fX0_least, nL, nI_add, nJ_mul, nJ_div, nJ_mod, nI_leI, nI_ltI, nI_eq, Option.bind_some, Option.bind_none, Nat.one_ne_zero, Nat.zero_ne_one, Nat.zero_add, Nat.add_zero, if_true, if_false, not_true_eq_false, not_false_eq_true, dx X, x1, c, x2, c2, e1, enO_s, em, c3, x3, gx2 X hl, x4, a1, b1, b4]
          · have mm2 : fX3_least 136 (nI p) w (hw q I1 L2) = fX3_least_L26 136 (nI p) w (-(nI 2)) (nI 0) (hw q I1 L2) := by
              simp (disch := omega) only [fX3_least, nL, nI_add, nJ_mul, nJ_div, nJ_mod, nI_leI, nI_ltI, nI_eq, Option.bind_some, Option.bind_none, Nat.one_ne_zero, Nat.zero_ne_one, Nat.zero_add, Nat.add_zero, if_true, if_false, not_true_eq_false, not_false_eq_true, dm M, m1, c, m2, c2]
            have hs1 : I1 136 32 = nI sM := K2.2.2.2.1
            rw [hb] at e2'
            rw [mm2, e2']
            refine whl_end ?_
            simp (disch := omega) only [fX3_least_L26_b, nL, nI_add, nJ_mul, nJ_div, nJ_mod, nI_leI, nI_ltI, nI_eq, Option.bind_some, Option.bind_none, Nat.one_ne_zero, Nat.zero_ne_one, Nat.zero_add, Nat.add_zero, if_true, if_false, not_true_eq_false, not_false_eq_true, gm_I M, hs1, Nat.le_refl, enO_s, em, c3, dm M, d1, d7, g1, xr_s]
end JG
