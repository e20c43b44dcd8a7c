/-! P2 BASK: TruthBridge's further questions -/
section BQ
variable {q : ph_t} {I : iF} {L : lF_} {A : ld_t} {T : Nat → Nat → Bool} {sM g : Nat}
theorem bK_getsOver (K : bK q g I L A T sM) {p s : Nat} (hp : p < lA A 1 2) (hs : s < sM) : fX0_getsOver 64 (some g) (nI p) (nI s) (hw q I L) = some (nI (if decide (lA A 6 p = 0) && (T s (lA A 1 1) && decide (lA A 3 p ≤ gn_ (lH A 6) (T s))) then 1 else 0), hw q I L) := by
  obtain ⟨X, G, R, hT, hsM, hW, h24, -⟩ := K
  have h6 := hW.1.2.2.1
  have hso := hW.1.2.1
  have h8 := p2_8 hW.1.1
  obtain ⟨w1, w2, w3, w4, w5, w6⟩ := hW.2.1 p hp
  have hg := gn_le (H := lH A 6) (B := T s)
  have e3 := bE_isSo (I := I) (L := L) X hT hs (w := lA A 1 1) (by omega) h24
  have e4 := bE_gainOf (L := L) X G R hT hW hs h24
  by_cases c1 : lA A 6 p = 0
  · cases c3 : T s (lA A 1 1)
    · simp (disch := omega) only [fX0_getsOver, nL, nI_add, nJ_mul, nJ_div, nJ_mod, nI_leI, nI_ltI, nI_eq, Option.bind_some, Option.bind_none, Nat.one_ne_zero, Nat.zero_ne_one, Nat.zero_add, Nat.add_zero, if_true, if_false, not_true_eq_false, not_false_eq_true, gg13 G, xg13 G, R.p5 hp, c1, gg_I G, R.f1, dx X, e3, c3, Bool.false_eq_true, rz_0, decide_true, Bool.true_and, Bool.false_and]
    · by_cases c5 : lA A 3 p ≤ gn_ (lH A 6) (T s)
      · simp (disch := omega) only [fX0_getsOver, nL, nI_add, nJ_mul, nJ_div, nJ_mod, nI_leI, nI_ltI, nI_eq, Option.bind_some, Option.bind_none, Nat.one_ne_zero, Nat.zero_ne_one, Nat.zero_add, Nat.add_zero, if_true, if_false, not_true_eq_false, not_false_eq_true, gg13 G, xg13 G, R.p5 hp, c1, gg_I G, R.f1, dx X, e3, c3, e4, gg10 G, xg10 G, R.p2 hp, c5, show ¬ gn_ (lH A 6) (T s) < lA A 3 p by omega, rz_1, decide_true, Bool.true_and]
      · simp (disch := omega) only [fX0_getsOver, nL, nI_add, nJ_mul, nJ_div, nJ_mod, nI_leI, nI_ltI, nI_eq, Option.bind_some, Option.bind_none, Nat.one_ne_zero, Nat.zero_ne_one, Nat.zero_add, Nat.add_zero, if_true, if_false, not_true_eq_false, not_false_eq_true, gg13 G, xg13 G, R.p5 hp, c1, gg_I G, R.f1, dx X, e3, c3, e4, gg10 G, xg10 G, R.p2 hp, c5, show gn_ (lH A 6) (T s) < lA A 3 p by omega, rz_0, decide_true, decide_false, Bool.true_and, Bool.false_eq_true]
  · simp (disch := omega) only [fX0_getsOver, nL, nI_add, nJ_mul, nJ_div, nJ_mod, nI_leI, nI_ltI, nI_eq, Option.bind_some, Option.bind_none, Nat.one_ne_zero, Nat.zero_ne_one, Nat.zero_add, Nat.add_zero, if_true, if_false, not_true_eq_false, not_false_eq_true, gg13 G, xg13 G, R.p5 hp, c1, rz_0, decide_false, Bool.false_and, Bool.false_eq_true]
theorem bK_canCross (K : bK q g I L A T sM) {p s : Nat} (hp : p < lA A 1 2) (hs : s < sM) : fX0_canCross 64 (some g) (nI p) (nI s) (hw q I L) = some (nI (if a_gets A T p s then 1 else 0), hw q I L) := by
  have e1 := bK_getsOver (L := L) K hp hs
  obtain ⟨X, G, R, hT, hsM, hW, h24, -⟩ := K
  obtain ⟨w1, w2, w3, w4, w5, w6⟩ := hW.2.1 p hp
  have e2 := bE_isKnown (L := L) X G R hT hW (Or.inl hp) hs h24
  have e3 : a_gets A T p s = (kn_ (lH A p) (T s) && (decide (lA A 6 p = 0) && (T s (lA A 1 1) && decide (lA A 3 p ≤ gn_ (lH A 6) (T s))))) := by
    unfold a_gets
    by_cases c : lA A 3 p ≤ gn_ (lH A 6) (T s)
    · have : kn_ (lH A 6) (T s) = false := by
        unfold kn_
        unfold gn_ at c
        exact decide_eq_false (by omega)
      rw [this, decide_eq_true c]
      cases kn_ (lH A p) (T s) <;> cases T s (lA A 1 1) <;> cases decide (lA A 6 p = 0) <;> rfl
    · rw [decide_eq_false c]
      cases kn_ (lH A p) (T s) <;> cases T s (lA A 1 1) <;> cases decide (lA A 6 p = 0) <;> cases kn_ (lH A 6) (T s) <;> rfl
  rw [e3]
  cases c1 : kn_ (lH A p) (T s)
  · simp (disch := omega) only [fX0_canCross, nL, nI_add, nJ_mul, nJ_div, nJ_mod, nI_leI, nI_ltI, nI_eq, Option.bind_some, Option.bind_none, Nat.one_ne_zero, Nat.zero_ne_one, Nat.zero_add, Nat.add_zero, if_true, if_false, not_true_eq_false, not_false_eq_true, dx X, e2, c1, Bool.false_eq_true, rz_0, Bool.false_and]
  · generalize (decide (lA A 6 p = 0) && (T s (lA A 1 1) && decide (lA A 3 p ≤ gn_ (lH A 6) (T s)))) = b at e1
    cases b
    · simp (disch := omega) only [Bool.false_eq_true, if_false] at e1
      simp (disch := omega) only [fX0_canCross, nL, nI_add, nJ_mul, nJ_div, nJ_mod, nI_leI, nI_ltI, nI_eq, Option.bind_some, Option.bind_none, Nat.one_ne_zero, Nat.zero_ne_one, Nat.zero_add, Nat.add_zero, if_true, if_false, not_true_eq_false, not_false_eq_true, dx X, e2, c1, e1, Bool.false_eq_true, rz_0, Bool.true_and]
    · simp (disch := omega) only [if_true] at e1
      simp (disch := omega) only [fX0_canCross, nL, nI_add, nJ_mul, nJ_div, nJ_mod, nI_leI, nI_ltI, nI_eq, Option.bind_some, Option.bind_none, Nat.one_ne_zero, Nat.zero_ne_one, Nat.zero_add, Nat.add_zero, if_true, if_false, not_true_eq_false, not_false_eq_true, dx X, e2, c1, e1, rz_1, Bool.true_and]
theorem bK_hasWay (K : bK q g I L A T sM) {p : Nat} (hp : p < lA A 1 2) : fX0_hasWay 64 (some g) (nI p) (hw q I L) = some (nI (if a_can A T sM p then 1 else 0), hw q I L) := by
  obtain ⟨X, G, R, hT, hsM, hW, h24, -⟩ := id K
  unfold fX0_hasWay fX0_hasWay_L2
  have := whl_any (f := fun s_1 : Int32 × ph_t => fX0_hasWay_L2_b 64 (some g) (nI p) s_1.1 s_1.2) (fun i => (nI i, hw q I L)) (a_gets A T p) sM (t0 := (nI 0, hw q I L)) (t1 := (nI 1, hw q I L)) rfl
    (fun i hi c => by simp (disch := omega) only [fX0_hasWay_L2_b, nL, nI_add, nJ_mul, nJ_div, nJ_mod, nI_leI, nI_ltI, nI_eq, Option.bind_some, Option.bind_none, Nat.one_ne_zero, Nat.zero_ne_one, Nat.zero_add, Nat.add_zero, if_true, if_false, not_true_eq_false, not_false_eq_true, gx_I X, hsM, dx X, bK_canCross K hp hi, c, show ¬ sM ≤ i by omega, Bool.false_eq_true])
    (fun i hi c => by simp (disch := omega) only [fX0_hasWay_L2_b, nL, nI_add, nJ_mul, nJ_div, nJ_mod, nI_leI, nI_ltI, nI_eq, Option.bind_some, Option.bind_none, Nat.one_ne_zero, Nat.zero_ne_one, Nat.zero_add, Nat.add_zero, if_true, if_false, not_true_eq_false, not_false_eq_true, gx_I X, hsM, dx X, bK_canCross K hp hi, c, show ¬ sM ≤ i by omega, rz_1, xr_s])
    (by simp (disch := omega) only [fX0_hasWay_L2_b, nL, nI_add, nJ_mul, nJ_div, nJ_mod, nI_leI, nI_ltI, nI_eq, Option.bind_some, Option.bind_none, Nat.one_ne_zero, Nat.zero_ne_one, Nat.zero_add, Nat.add_zero, if_true, if_false, not_true_eq_false, not_false_eq_true, gx_I X, hsM, Nat.le_refl, rz_0, xr_s])
  rw [nJ_0, this]
  unfold a_can
  cases anyB (a_gets A T p) sM <;> rfl
theorem bK_others (K : bK q g I L A T sM) {p : Nat} (hp : p < lA A 1 2) : fX0_othersWith 64 (some g) (nI p) (hw q I L) = some (nI (a_oth A p), hw q I L) := by
  obtain ⟨X, G, R, hT, hsM, hW, h24, -⟩ := K
  have h6 := hW.1.2.2.1
  have hp2 := (hW.2.1 p hp).1
  unfold fX0_othersWith fX0_othersWith_L5 a_oth
  generalize hP : (fun o => decide (¬ o = p) && decide (lA A 2 o = lA A 2 p)) = P
  refine whl_for (fun i => (nI (fb_ct P i), nI i, hw q I L)) (lA A 1 2) rfl (fun i hi => ?_) ?_
  · have ho2 := (hW.2.1 i hi).1
    have eP : P i = (decide (¬ i = p) && decide (lA A 2 i = lA A 2 p)) := by rw [← hP]
    by_cases c1 : i = p
    · have e1 : P i = false := by rw [eP, decide_eq_false (fun z => z c1), Bool.false_and]
      simp (disch := omega) only [fX0_othersWith_L5_b, fX0_othersWith_L41, fX0_othersWith_L42, nm_, nL, nI_add, nJ_mul, nJ_div, nJ_mod, nI_leI, nI_ltI, nI_eq, Option.bind_some, Option.bind_none, Nat.one_ne_zero, Nat.zero_ne_one, Nat.zero_add, Nat.add_zero, if_true, if_false, not_true_eq_false, not_false_eq_true, gg_I G, R.f2, show ¬ lA A 1 2 ≤ i by omega, c1 ▸ e1, c1, fb_ct_succ, Bool.false_eq_true, show ¬ lA A 1 2 ≤ p by omega]
    · by_cases c2 : lA A 2 i = lA A 2 p
      · have e1 : P i = true := by rw [eP, decide_eq_true c1, decide_eq_true c2]; rfl
        simp (disch := omega) only [fX0_othersWith_L5_b, fX0_othersWith_L41, fX0_othersWith_L42, nm_, nL, nI_add, nJ_mul, nJ_div, nJ_mod, nI_leI, nI_ltI, nI_eq, Option.bind_some, Option.bind_none, Nat.one_ne_zero, Nat.zero_ne_one, Nat.zero_add, Nat.add_zero, if_true, if_false, not_true_eq_false, not_false_eq_true, gg_I G, R.f2, show ¬ lA A 1 2 ≤ i by omega, e1, c1, gg9 G, xg9 G, R.p1 hi, R.p1 hp, c2, fb_ct_succ]
      · have e1 : P i = false := by rw [eP, decide_eq_false c2, Bool.and_false]
        simp (disch := omega) only [fX0_othersWith_L5_b, fX0_othersWith_L41, fX0_othersWith_L42, nm_, nL, nI_add, nJ_mul, nJ_div, nJ_mod, nI_leI, nI_ltI, nI_eq, Option.bind_some, Option.bind_none, Nat.one_ne_zero, Nat.zero_ne_one, Nat.zero_add, Nat.add_zero, if_true, if_false, not_true_eq_false, not_false_eq_true, gg_I G, R.f2, show ¬ lA A 1 2 ≤ i by omega, e1, c1, gg9 G, xg9 G, R.p1 hi, R.p1 hp, c2, fb_ct_succ, Bool.false_eq_true]
  · simp (disch := omega) only [fX0_othersWith_L5_b, nL, nI_add, nJ_mul, nJ_div, nJ_mod, nI_leI, nI_ltI, nI_eq, Option.bind_some, Option.bind_none, Nat.one_ne_zero, Nat.zero_ne_one, Nat.zero_add, Nat.add_zero, if_true, if_false, not_true_eq_false, not_false_eq_true, gg_I G, R.f2, Nat.le_refl, xr_s]
theorem bK_isSoAll (K : bK q g I L A T sM) {set w : Nat} (hw_ : w < 256) : fX0_isSoAll 64 (nI set) (nI w) (hw q I L) = some (nI (if a_all T sM set w then 1 else 0), hw q I L) := by
  obtain ⟨X, G, R, hT, hsM, hW, h24, -⟩ := K
  unfold fX0_isSoAll fX0_isSoAll_L2
  have := whl_any (f := fun s_1 : Int32 × ph_t => fX0_isSoAll_L2_b 64 (nI set) (nI w) s_1.1 s_1.2) (fun i => (nI i, hw q I L)) (fun k => !(!set.testBit k || T k w)) sM (t0 := (nI 1, hw q I L)) (t1 := (nI 0, hw q I L)) rfl
    (fun i hi c => by
      have eS := bE_isSo (I := I) (L := L) X hT (s := i) (w := w) hi hw_ h24
      cases c1 : set.testBit i
      · simp (disch := omega) only [fX0_isSoAll_L2_b, fX0_isSoAll_L29, nL, nI_add, nJ_mul, nJ_div, nJ_mod, nI_leI, nI_ltI, nI_eq, Option.bind_some, Option.bind_none, Nat.one_ne_zero, Nat.zero_ne_one, Nat.zero_add, Nat.add_zero, if_true, if_false, not_true_eq_false, not_false_eq_true, gx_I X, hsM, bE_hasN, c1, Bool.false_eq_true, show ¬ sM ≤ i by omega]
      · have c2 : T i w = true := by
          cases d : T i w
          · simp [c1, d] at c
          · rfl
        simp (disch := omega) only [fX0_isSoAll_L2_b, fX0_isSoAll_L29, nL, nI_add, nJ_mul, nJ_div, nJ_mod, nI_leI, nI_ltI, nI_eq, Option.bind_some, Option.bind_none, Nat.one_ne_zero, Nat.zero_ne_one, Nat.zero_add, Nat.add_zero, if_true, if_false, not_true_eq_false, not_false_eq_true, gx_I X, hsM, bE_hasN, c1, dx X, eS, c2, show ¬ sM ≤ i by omega])
    (fun i hi c => by
      have eS := bE_isSo (I := I) (L := L) X hT (s := i) (w := w) hi hw_ h24
      have c1 : set.testBit i = true := by
        cases d : set.testBit i
        · simp [d] at c
        · rfl
      have c2 : T i w = false := by
        cases d : T i w
        · rfl
        · simp [d] at c
      simp (disch := omega) only [fX0_isSoAll_L2_b, fX0_isSoAll_L29, nL, nI_add, nJ_mul, nJ_div, nJ_mod, nI_leI, nI_ltI, nI_eq, Option.bind_some, Option.bind_none, Nat.one_ne_zero, Nat.zero_ne_one, Nat.zero_add, Nat.add_zero, if_true, if_false, not_true_eq_false, not_false_eq_true, gx_I X, hsM, bE_hasN, c1, dx X, eS, c2, Bool.false_eq_true, rz_0, xr_s, show ¬ sM ≤ i by omega])
    (by simp (disch := omega) only [fX0_isSoAll_L2_b, nL, nI_add, nJ_mul, nJ_div, nJ_mod, nI_leI, nI_ltI, nI_eq, Option.bind_some, Option.bind_none, Nat.one_ne_zero, Nat.zero_ne_one, Nat.zero_add, Nat.add_zero, if_true, if_false, not_true_eq_false, not_false_eq_true, gx_I X, hsM, Nat.le_refl, rz_1, xr_s])
  rw [nJ_0, this]
  unfold a_all
  rw [all_any]
  cases anyB (fun k => !(!set.testBit k || T k w)) sM <;> rfl
theorem bK_follows (K : bK q 66 I L A T sM) (hl : ph_R q 64 2 = some 66) {set s : Nat} (hs : s < sM) : fX0_followsFrom 64 (nI set) (nI s) (hw q I L) = some (nI (if a_fol A T sM set s then 1 else 0), hw q I L) := by
  obtain ⟨X, G, R, hT, hsM, hW, h24, -⟩ := id K
  have h8 := p2_8 hW.1.1
  have ew := bE_worlds (L := L) G R hW
  unfold a_fol
  obtain ⟨N, hN⟩ : ∃ N, 2 ^ lA A 1 0 = N := ⟨_, rfl⟩
  rw [hN] at h8 ew
  rw [hN]
  unfold fX0_followsFrom fX0_followsFrom_L2
  have := whl_any (f := fun s_1 : Int32 × ph_t => fX0_followsFrom_L2_b 64 (nI set) (nI s) s_1.1 s_1.2) (fun i => (nI i, hw q I L)) (fun w => !(!(a_all T sM set w) || T s w)) N (t0 := (nI 1, hw q I L)) (t1 := (nI 0, hw q I L)) rfl
    (fun i hi c => by
      have eS := bE_isSo (I := I) (L := L) X hT (s := s) (w := i) hs (by omega) h24
      have eA := bK_isSoAll (L := L) K (set := set) (w := i) (by omega)
      cases c1 : a_all T sM set i
      · simp (disch := omega) only [fX0_followsFrom_L2_b, fX0_followsFrom_L33, nL, nI_add, nJ_mul, nJ_div, nJ_mod, nI_leI, nI_ltI, nI_eq, Option.bind_some, Option.bind_none, Nat.one_ne_zero, Nat.zero_ne_one, Nat.zero_add, Nat.add_zero, if_true, if_false, not_true_eq_false, not_false_eq_true, gx2 X hl, dg G, ew, dx X, eA, c1, Bool.false_eq_true, show ¬ N ≤ i by omega]
      · have c2 : T s i = true := by
          cases d : T s i
          · simp [c1, d] at c
          · rfl
        simp (disch := omega) only [fX0_followsFrom_L2_b, fX0_followsFrom_L33, nL, nI_add, nJ_mul, nJ_div, nJ_mod, nI_leI, nI_ltI, nI_eq, Option.bind_some, Option.bind_none, Nat.one_ne_zero, Nat.zero_ne_one, Nat.zero_add, Nat.add_zero, if_true, if_false, not_true_eq_false, not_false_eq_true, gx2 X hl, dg G, ew, dx X, eA, c1, eS, c2, show ¬ N ≤ i by omega])
    (fun i hi c => by
      have eS := bE_isSo (I := I) (L := L) X hT (s := s) (w := i) hs (by omega) h24
      have eA := bK_isSoAll (L := L) K (set := set) (w := i) (by omega)
      have c1 : a_all T sM set i = true := by
        cases d : a_all T sM set i
        · simp [d] at c
        · rfl
      have c2 : T s i = false := by
        cases d : T s i
        · rfl
        · simp [d] at c
      simp (disch := omega) only [fX0_followsFrom_L2_b, fX0_followsFrom_L33, nL, nI_add, nJ_mul, nJ_div, nJ_mod, nI_leI, nI_ltI, nI_eq, Option.bind_some, Option.bind_none, Nat.one_ne_zero, Nat.zero_ne_one, Nat.zero_add, Nat.add_zero, if_true, if_false, not_true_eq_false, not_false_eq_true, gx2 X hl, dg G, ew, dx X, eA, c1, eS, c2, Bool.false_eq_true, rz_0, xr_s, show ¬ N ≤ i by omega])
    (by simp (disch := omega) only [fX0_followsFrom_L2_b, nL, nI_add, nJ_mul, nJ_div, nJ_mod, nI_leI, nI_ltI, nI_eq, Option.bind_some, Option.bind_none, Nat.one_ne_zero, Nat.zero_ne_one, Nat.zero_add, Nat.add_zero, if_true, if_false, not_true_eq_false, not_false_eq_true, gx2 X hl, dg G, ew, Nat.le_refl, rz_1, xr_s])
  rw [nJ_0, this, all_any]
  cases anyB (fun w => !(!(a_all T sM set w) || T s w)) N <;> rfl
end BQ
