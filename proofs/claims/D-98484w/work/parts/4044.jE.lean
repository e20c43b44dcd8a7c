/-! P2 JE: both answer: trials, seeds, counts -/
section JE
variable {q : ph_t} {I : iF} {L : lF_} {A : ld_t} {T : Nat → Nat → Bool} {sM : Nat}
theorem bL.none (B : bL q I L A T sM) (c : isL A = false) : ph_R q 64 2 = none ∧ lBl A := by
  rcases B.2.2.2.2.2.2 with ⟨h1, h2, h3⟩ | h
  · rw [isL_iff.mpr h3] at c; cases c
  · exact h
theorem lW2_tr {A A' : ld_t} (V : lW2 A) (e : ∀ f i, ¬ (f = 1 ∧ i = 7) → f ≠ 13 → f ≠ 14 → lA A' f i = lA A f i) (hP : lP A' = lP A) : lW2 A' :=
  lW2_cong V (by rw [e 1 6 (by omega) (by omega) (by omega)]; exact V.1.1) (e 1 8 (by omega) (by omega) (by omega)) (e 0 0 (by omega) (by omega) (by omega)) (e 1 0 (by omega) (by omega) (by omega)) (e 1 2 (by omega) (by omega) (by omega)) hP
theorem J_trial (J : jK q I L A T sM) (v : Int32) (b : Bool) : jO q I L T sM (fX0_trial 64 v (nI (if b then 1 else 0))) (fX3_trial 136 v (nI (if b then 1 else 0))) := by
  obtain ⟨K, B, V⟩ := id J
  obtain ⟨M, RM, hTM, hsM, W, h24⟩ := id K
  have X := B.1
  have w7 := W.1.2.2.2.2.2.2.2.1
  by_cases c0 : v = -(nI 1)
  · subst c0
    have ee : ∀ f i, ¬ (f = 1 ∧ i = 7) → f ≠ 13 → f ≠ 14 → lA (a_tr0 A) f i = lA A f i := fun f i h _ _ => a_tr0_A h
    have z7 : lA (a_tr0 A) 1 7 = 0 := rfl
    have W' : lW (a_tr0 A) := lW_trc W ee (by rw [z7]; omega) rfl
    -- the model
    have mo : ∀ (I1 : iF) (L1 : lF_), mK q I1 A T sM → ∃ I2 L2, fX3_trial 136 (-(nI 1)) (nI (if b then 1 else 0)) (hw q I1 L1) = some (nI 0, hw q I2 L2) ∧ frT I1 I2 ∧ frTL L1 L2 ∧ mK q I2 (a_tr0 A) T sM := fun I1 L1 K1 => by
      refine ⟨ph_u I1 137 7 (nI 0), L1, ?_, frT.rf.up (by omega), frTL.rf, M, mlR_trc K1.2.1 (fun a h1 _ _ => pu_ne h1) (fun j hj => ?_) ee (fun k hk => by rw [z7] at hk; omega) rfl rfl, by rw [pu_ne (by decide)]; exact K1.2.2.1, by rw [pu_ne (by decide)]; exact K1.2.2.2.1, W', h24⟩
      · simp (disch := omega) only [fX3_trial, nL, nI_add, nJ_mul, nJ_div, nJ_mod, nI_leI, nI_ltI, nI_eq, Option.bind_some, Option.bind_none, Nat.one_ne_zero, Nat.zero_ne_one, Nat.zero_add, Nat.add_zero, if_true, if_false, not_true_eq_false, not_false_eq_true, gm1 M, ym137 M]
      · rw [pu_at]
        by_cases c : j = 7
        · rw [if_pos c, c]; rfl
        · rw [if_neg c, ee 1 j (by omega) (by omega) (by omega)]; exact rm1 K1.2.1 hj
    cases c : isL A
    · obtain ⟨hn, hb⟩ := B.none c
      refine jO_mk (r := nI 0) (I1 := I) (L1 := L) (A' := a_tr0 A) ?_ frX.rf frXL.rf ⟨X, B.2.1, B.2.2.1, by rw [ee 1 8 (by omega) (by omega) (by omega)]; exact B.2.2.2.1, W', h24, Or.inr ⟨hn, fun j hj => ?_, hb.2⟩⟩ (lW2_tr V ee rfl) (mo I L K)
      · simp (disch := omega) only [fX0_trial, nL, nI_add, nJ_mul, nJ_div, nJ_mod, nI_leI, nI_ltI, nI_eq, Option.bind_some, Option.bind_none, Nat.one_ne_zero, Nat.zero_ne_one, Nat.zero_add, Nat.add_zero, if_true, if_false, not_true_eq_false, not_false_eq_true, gx2n X hn, nq_0]
      · by_cases c : j = 7
        · rw [c]; exact z7
        · rw [ee 1 j (by omega) (by omega) (by omega)]; exact hb.1 j hj
    · obtain ⟨KB, hl⟩ := B.K (isL_iff.mp c)
      obtain ⟨-, G, R, -⟩ := id KB
      have fX : frX I (ph_u I 66 8 (nI 0)) := frX.rf.up (by omega)
      refine jO_mk (r := nI 0) (I1 := ph_u I 66 8 (nI 0)) (L1 := L) (A' := a_tr0 A) ?_ fX frXL.rf ⟨X, B.2.1, by rw [pu_ne (by decide)]; exact B.2.2.1, by rw [pu_ne (by decide), ee 1 8 (by omega) (by omega) (by omega)]; exact B.2.2.2.1, W', h24, Or.inl ⟨hl, glR_trc R (fun a h1 _ => pu_ne h1) (fun j hj => pu_nk hj) (by rw [pu_eq]; rfl) ee (fun k hk => by rw [z7] at hk; omega) rfl rfl, isL_iff.mp c⟩⟩ (lW2_tr V ee rfl) (mo _ L (K.X fX))
      simp (disch := omega) only [fX0_trial, nL, nI_add, nJ_mul, nJ_div, nJ_mod, nI_leI, nI_ltI, nI_eq, Option.bind_some, Option.bind_none, Nat.one_ne_zero, Nat.zero_ne_one, Nat.zero_add, Nat.add_zero, if_true, if_false, not_true_eq_false, not_false_eq_true, gx2 X hl, nq_66, sl_I G]
  · have x1 := bL_isAsked B v
    have m1 := kE_isSaying (L := L) K v
    have m2 := kE_isLandB (L := L) K
    cases c1 : inB v sM
    · exact jO_same J (r := -(nI 2)) (by simp (disch := omega) only [fX0_trial, nL, nI_add, nJ_mul, nJ_div, nJ_mod, nI_leI, nI_ltI, nI_eq, Option.bind_some, Option.bind_none, Nat.one_ne_zero, Nat.zero_ne_one, Nat.zero_add, Nat.add_zero, if_true, if_false, not_true_eq_false, not_false_eq_true, dx X, x1, c0, c1, Bool.and_false, Bool.false_eq_true]) (by simp (disch := omega) only [fX3_trial, nL, nI_add, nJ_mul, nJ_div, nJ_mod, nI_leI, nI_ltI, nI_eq, Option.bind_some, Option.bind_none, Nat.one_ne_zero, Nat.zero_ne_one, Nat.zero_add, Nat.add_zero, if_true, if_false, not_true_eq_false, not_false_eq_true, dm M, gm1 M, xm137 M, rm1 RM, m1, c0, c1, Bool.false_eq_true])
    · cases c : isL A
      · exact jO_same J (r := -(nI 2)) (by simp (disch := omega) only [fX0_trial, nL, nI_add, nJ_mul, nJ_div, nJ_mod, nI_leI, nI_ltI, nI_eq, Option.bind_some, Option.bind_none, Nat.one_ne_zero, Nat.zero_ne_one, Nat.zero_add, Nat.add_zero, if_true, if_false, not_true_eq_false, not_false_eq_true, dx X, x1, c0, c, Bool.false_and, Bool.false_eq_true]) (by simp (disch := omega) only [fX3_trial, nL, nI_add, nJ_mul, nJ_div, nJ_mod, nI_leI, nI_ltI, nI_eq, Option.bind_some, Option.bind_none, Nat.one_ne_zero, Nat.zero_ne_one, Nat.zero_add, Nat.add_zero, if_true, if_false, not_true_eq_false, not_false_eq_true, dm M, gm1 M, xm137 M, rm1 RM, m1, c0, c1, m2, c, Bool.false_eq_true])
      · obtain ⟨KB, hl⟩ := B.K (isL_iff.mp c)
        obtain ⟨-, G, R, -⟩ := id KB
        by_cases c7 : lA A 1 7 = 10
        · exact jO_same J (r := -(nI 2)) (by simp (disch := omega) only [fX0_trial, nL, nI_add, nJ_mul, nJ_div, nJ_mod, nI_leI, nI_ltI, nI_eq, Option.bind_some, Option.bind_none, Nat.one_ne_zero, Nat.zero_ne_one, Nat.zero_add, Nat.add_zero, if_true, if_false, not_true_eq_false, not_false_eq_true, dx X, x1, c0, c1, c, Bool.and_self, gx2 X hl, gl_I G, R.f8, c7]) (by simp (disch := omega) only [fX3_trial, nL, nI_add, nJ_mul, nJ_div, nJ_mod, nI_leI, nI_ltI, nI_eq, Option.bind_some, Option.bind_none, Nat.one_ne_zero, Nat.zero_ne_one, Nat.zero_add, Nat.add_zero, if_true, if_false, not_true_eq_false, not_false_eq_true, dm M, gm1 M, xm137 M, rm1 RM, m1, c0, c1, m2, c, c7])
        · obtain ⟨s, hs, rfl⟩ := inB_of c1 (by omega)
          obtain ⟨n, hn⟩ : ∃ n, lA A 1 7 = n := ⟨_, rfl⟩
          obtain ⟨bb, hbb⟩ : ∃ bb, (if b = true then 1 else 0 : Nat) = bb := ⟨_, rfl⟩
          have hb1 : bb = if b = true then 1 else 0 := hbb.symm
          rw [hbb]
          have ee : ∀ f i, ¬ (f = 1 ∧ i = 7) → f ≠ 13 → f ≠ 14 → lA (a_tr A s bb) f i = lA A f i := fun f i h h2 h3 => a_tr_A h h2 h3
          have z7 : lA (a_tr A s bb) 1 7 = n + 1 := by rw [← hn]; rfl
          have z13 : ∀ k, lA (a_tr A s bb) 13 k = if k = n then s else lA A 13 k := fun k => by
            show (if (13 : Nat) = 1 ∧ k = 7 then lA A 1 7 + 1 else if (13 : Nat) = 13 ∧ k = lA A 1 7 then s else if (13 : Nat) = 14 ∧ k = lA A 1 7 then bb else lA A 13 k) = _
            rw [if_neg (by omega), hn]
            by_cases c : k = n
            · rw [if_pos c, if_pos ⟨rfl, c⟩]
            · rw [if_neg c, if_neg (fun z => c z.2), if_neg (by omega)]
          have z14 : ∀ k, lA (a_tr A s bb) 14 k = if k = n then bb else lA A 14 k := fun k => by
            show (if (14 : Nat) = 1 ∧ k = 7 then lA A 1 7 + 1 else if (14 : Nat) = 13 ∧ k = lA A 1 7 then s else if (14 : Nat) = 14 ∧ k = lA A 1 7 then bb else lA A 14 k) = _
            rw [if_neg (by omega), if_neg (by omega), hn]
            by_cases c : k = n
            · rw [if_pos c, if_pos ⟨rfl, c⟩]
            · rw [if_neg c, if_neg (fun z => c z.2)]
          have W' : lW (a_tr A s bb) := lW_trc W ee (by rw [z7]; omega) rfl
          have fX : frX I (ph_u (ph_u (ph_u I 76 (2 * n) (nI s)) 76 (2 * n + 1) (nI bb)) 66 8 (nI (n + 1))) := ((frX.rf.up (by omega)).up (by omega)).up (by omega)
          have K1 := K.X fX
          have g8 : I 66 8 = nI n := by rw [← hn]; exact R.f8
          refine jO_mk (r := nI (n + 1)) (I1 := ph_u (ph_u (ph_u I 76 (2 * n) (nI s)) 76 (2 * n + 1) (nI bb)) 66 8 (nI (n + 1))) (L1 := L) (A' := a_tr A s bb) ?_ fX frXL.rf ⟨X, B.2.1, by rw [pu_ne (by decide), pu_ne (by decide), pu_ne (by decide)]; exact B.2.2.1, by rw [pu_ne (by decide), pu_ne (by decide), pu_ne (by decide), ee 1 8 (by omega) (by omega) (by omega)]; exact B.2.2.2.1, W', h24, Or.inl ⟨hl, glR_trc R (fun a h1 h2 => by rw [pu_ne h1, pu_ne h2, pu_ne h2]) (fun j hj => by rw [pu_nk hj, pu_ne (by decide), pu_ne (by decide)]) (by rw [pu_eq, z7]) ee (fun k hk => ?_) rfl rfl, isL_iff.mp c⟩⟩ (lW2_tr V ee rfl) ?_
          · have hc : c7 = c7 := rfl
            have c8 : ¬ n = 10 := by omega
            cases b
            · simp only [Bool.false_eq_true, if_false] at hbb
              subst hbb
              simp (disch := omega) only [fX0_trial, fX0_trial_L90, nL, nI_add, nJ_mul, nJ_div, nJ_mod, nI_leI, nI_ltI, nI_eq, Option.bind_some, Option.bind_none, Nat.one_ne_zero, Nat.zero_ne_one, Nat.zero_add, Nat.add_zero, if_true, if_false, not_true_eq_false, not_false_eq_true, dx X, x1, c0, c1, c, Bool.and_self, gx2 X hl, gl_I G, sl_I G, g8, c8, gl18 G, yl18 G, pu_ne, pu_eq]
            · simp only [if_true] at hbb
              subst hbb
              simp (disch := omega) only [fX0_trial, fX0_trial_L90, nL, nI_add, nJ_mul, nJ_div, nJ_mod, nI_leI, nI_ltI, nI_eq, Option.bind_some, Option.bind_none, Nat.one_ne_zero, Nat.zero_ne_one, Nat.zero_add, Nat.add_zero, if_true, if_false, not_true_eq_false, not_false_eq_true, dx X, x1, c0, c1, c, Bool.and_self, gx2 X hl, gl_I G, sl_I G, g8, c8, gl18 G, yl18 G, pu_ne, pu_eq]
          · rw [z7] at hk
            rw [show (66 : Nat) + 10 = 76 from rfl, pu_ne (show 76 ≠ 66 by decide), pu_at, pu_at, pu_at, pu_at, z13, z14]
            by_cases ck : k = n
            · rw [if_pos ck, if_pos ck, if_neg (show ¬ 2 * k = 2 * n + 1 by omega), if_pos (show 2 * k = 2 * n by omega), if_pos (show 2 * k + 1 = 2 * n + 1 by omega)]
              exact ⟨rfl, rfl⟩
            · rw [if_neg ck, if_neg ck, if_neg (show ¬ 2 * k = 2 * n + 1 by omega), if_neg (show ¬ 2 * k = 2 * n by omega), if_neg (show ¬ 2 * k + 1 = 2 * n + 1 by omega), if_neg (show ¬ 2 * k + 1 = 2 * n by omega)]
              exact ⟨rl10 R (by omega), rl11 R (by omega)⟩
          · generalize ph_u (ph_u (ph_u I 76 (2 * n) (nI s)) 76 (2 * n + 1) (nI bb)) 66 8 (nI (n + 1)) = J1 at fX K1
            have m1 := kE_isSaying (L := L) K1 (nI s)
            have m2 := kE_isLandB (L := L) K1
            have g7 : J1 137 7 = nI n := by rw [← hn]; exact rm1 K1.2.1 (by decide)
            refine ⟨ph_u (ph_u (ph_u J1 149 n (nI s)) 150 n (nI bb)) 137 7 (nI (n + 1)), L, ?_, ((frT.rf.up (by omega)).up (by omega)).up (by omega), frTL.rf, M, mlR_trc K1.2.1 (fun a h1 h2 h3 => by rw [pu_ne h1, pu_ne h3, pu_ne h2]) (fun j hj => ?_) ee (fun k hk => ?_) rfl rfl, by rw [pu_ne (by decide), pu_ne (by decide), pu_ne (by decide)]; exact K1.2.2.1, by rw [pu_ne (by decide), pu_ne (by decide), pu_ne (by decide)]; exact K1.2.2.2.1, W', h24⟩
            · have c8 : ¬ n = 10 := by omega
              cases b
              · simp only [Bool.false_eq_true, if_false] at hbb
                subst hbb
                simp (disch := omega) only [fX3_trial, fX3_trial_L68, nL, nI_add, nJ_mul, nJ_div, nJ_mod, nI_leI, nI_ltI, nI_eq, Option.bind_some, Option.bind_none, Nat.one_ne_zero, Nat.zero_ne_one, Nat.zero_add, Nat.add_zero, if_true, if_false, not_true_eq_false, not_false_eq_true, dm M, gm1 M, xm137 M, ym137 M, g7, m1, c0, c1, m2, c, c8, gm13 M, gm14 M, ym149 M, ym150 M, pu_ne]
              · simp only [if_true] at hbb
                subst hbb
                simp (disch := omega) only [fX3_trial, fX3_trial_L68, nL, nI_add, nJ_mul, nJ_div, nJ_mod, nI_leI, nI_ltI, nI_eq, Option.bind_some, Option.bind_none, Nat.one_ne_zero, Nat.zero_ne_one, Nat.zero_add, Nat.add_zero, if_true, if_false, not_true_eq_false, not_false_eq_true, dm M, gm1 M, xm137 M, ym137 M, g7, m1, c0, c1, m2, c, c8, gm13 M, gm14 M, ym149 M, ym150 M, pu_ne]
            · rw [pu_at]
              by_cases cj : j = 7
              · rw [if_pos cj, cj, z7]
              · rw [if_neg cj, pu_ne (by decide), pu_ne (by decide), ee 1 j (by omega) (by omega) (by omega)]; exact rm1 K1.2.1 hj
            · rw [z7] at hk
              rw [pu_ne (show 149 ≠ 137 by decide), pu_ne (show 149 ≠ 150 by decide), pu_ne (show 150 ≠ 137 by decide), pu_at, pu_at, pu_ne (show 150 ≠ 149 by decide), z13, z14]
              by_cases ck : k = n
              · rw [if_pos ck, if_pos ck, if_pos ck, if_pos ck]
                exact ⟨rfl, rfl⟩
              · rw [if_neg ck, if_neg ck, if_neg ck, if_neg ck]
                exact ⟨rm13 K1.2.1 (by omega), rm14 K1.2.1 (by omega)⟩
theorem J_seed (J : jK q I L A T sM) (v : Int32) : jO q I L T sM (fX0_seed 64 v) (fX3_seed 136 v) := by
  obtain ⟨K, B, V⟩ := id J
  obtain ⟨M, RM, hTM, hsM, W, h24⟩ := id K
  have X := B.1
  have ge : (nI 0 ≤ v) = (0 ≤ v.toInt) := by
    rw [← nJ_0]
    exact propext (by rw [Int32.le_iff_toInt_le]; rfl)
  by_cases c : 0 ≤ v.toInt
  · have hb : inB v (2 ^ 31 - 1) = true ∨ v.toInt = 2 ^ 31 - 1 := by
      have := Int32.toInt_lt v
      by_cases h : v.toInt < 2 ^ 31 - 1
      · left; exact inB_iff.mpr ⟨c, by omega⟩
      · right; omega
    obtain ⟨n, hn, rfl⟩ : ∃ n, n < 2 ^ 31 ∧ v = nI n := by
      refine ⟨v.toInt.toNat, by have := Int32.toInt_lt v; omega, ?_⟩
      apply Int32.toInt_inj.mp
      rw [nI_toInt (by have := Int32.toInt_lt v; omega)]
      omega
    have W' : lW (lSet A 1 8 n) := by
      obtain ⟨w1, w2, w3, w4, w5, w6⟩ := W
      exact ⟨by simpa [lSet_A] using w1, by simpa [lSet_A] using w2, by simpa [lSet_A] using w3, by simpa [lSet_A] using w4, by simpa [lSet_A] using w5, by simpa [lSet_A, lSet_H] using w6⟩
    have V' : lW2 (lSet A 1 8 n) := by
      refine ⟨⟨?_, ?_⟩, ?_⟩
      · rw [lSet_A, if_neg (by omega)]; exact V.1.1
      · rw [lSet_A, if_pos ⟨rfl, rfl⟩]; exact hn
      · have := V.2
        simpa [lSet_A, lSet_P] using this
    have fX : frX I (ph_u I 64 7 (nI n)) := frX.rf.up (by omega)
    have K1 := K.X fX
    have B7 := B.2.2.2.1
    refine jO_mk (r := nI (lA A 1 8)) (I1 := ph_u I 64 7 (nI n)) (L1 := L) (A' := lSet A 1 8 n) ?_ fX frXL.rf ⟨X, B.2.1, by rw [pu_nk (by decide)]; exact B.2.2.1, by rw [pu_eq, lSet_A, if_pos ⟨rfl, rfl⟩], W', h24, ?_⟩ V' ⟨ph_u (ph_u I 64 7 (nI n)) 137 8 (nI n), L, ?_, frT.rf.up (by omega), frTL.rf, K1.next (frL.rf.up (by omega)) (mlR_set (f := 1) K1.2.1 (by omega) (by omega)) W'⟩
    · simp (disch := omega) only [fX0_seed, nL, nI_add, nJ_mul, nJ_div, nJ_mod, nI_leI, nI_ltI, nI_eq, Option.bind_some, Option.bind_none, Nat.one_ne_zero, Nat.zero_ne_one, Nat.zero_add, Nat.add_zero, if_true, if_false, not_true_eq_false, not_false_eq_true, ge, c, gx_I X, sx_I X, B7]
    · rcases B.2.2.2.2.2.2 with ⟨h1, h2, h3⟩ | ⟨h1, h2⟩
      · refine Or.inl ⟨h1, glR_SD (glS_cong h2.S (fun j _ _ => by rw [pu_ne (by decide)]) (fun a ha => by rw [pu_ne (by omega)]) rfl (fun f i h => by rw [lSet_A, if_neg h.2.2.2.2.2]) rfl) ⟨?_, ?_, fun p hp => ?_, h2.D.2.2.2⟩, by rw [lSet_A, if_neg (by omega)]; exact h3⟩
        · rw [pu_ne (by decide)]; exact h2.f1
        · rw [pu_ne (by decide)]; exact h2.f6
        · rw [pu_ne (by decide), pu_ne (by decide), pu_ne (by decide)]; exact h2.D.2.2.1 p hp
      · exact Or.inr ⟨h1, fun j hj => by rw [lSet_A, if_neg (by omega)]; exact h2.1 j hj, h2.2⟩
    · have g8 : ph_u I 64 7 (nI n) 137 8 = nI (lA A 1 8) := rm1 K1.2.1 (by decide)
      simp (disch := omega) only [fX3_seed, nL, nI_add, nJ_mul, nJ_div, nJ_mod, nI_leI, nI_ltI, nI_eq, Option.bind_some, Option.bind_none, Nat.one_ne_zero, Nat.zero_ne_one, Nat.zero_add, Nat.add_zero, if_true, if_false, not_true_eq_false, not_false_eq_true, ge, c, gm1 M, xm137 M, ym137 M, g8]
  · exact jO_same J (r := -(nI 1)) (by simp (disch := omega) only [fX0_seed, nL, nI_add, nJ_mul, nJ_div, nJ_mod, nI_leI, nI_ltI, nI_eq, Option.bind_some, Option.bind_none, Nat.one_ne_zero, Nat.zero_ne_one, Nat.zero_add, Nat.add_zero, if_true, if_false, not_true_eq_false, not_false_eq_true, ge, c]) (by simp (disch := omega) only [fX3_seed, nL, nI_add, nJ_mul, nJ_div, nJ_mod, nI_leI, nI_ltI, nI_eq, Option.bind_some, Option.bind_none, Nat.one_ne_zero, Nat.zero_ne_one, Nat.zero_add, Nat.add_zero, if_true, if_false, not_true_eq_false, not_false_eq_true, ge, c])
theorem J_count (J : jK q I L A T sM) (v : Int32) (h10 : I 64 10 = I 136 27) (h15 : I 64 15 = I 136 31) : jO q I L T sM (fX0_count 64 v) (fX3_count 136 v) := by
  obtain ⟨K, B, V⟩ := id J
  obtain ⟨M, RM, hTM, hsM, W, h24⟩ := id K
  have X := B.1
  have B1 := B.2.2.1
  have B7 := B.2.2.2.1
  by_cases v6 : v = nI 6
  · subst v6
    exact jO_same J (r := nI sM) (by simp (disch := omega) only [fX0_count, nL, nI_add, nJ_mul, nJ_div, nJ_mod, nI_leI, nI_ltI, nI_eq, Option.bind_some, Option.bind_none, Nat.one_ne_zero, Nat.zero_ne_one, Nat.zero_add, Nat.add_zero, if_true, if_false, not_true_eq_false, not_false_eq_true, gx_I X, B1]) (by simp (disch := omega) only [fX3_count, nL, nI_add, nJ_mul, nJ_div, nJ_mod, nI_leI, nI_ltI, nI_eq, Option.bind_some, Option.bind_none, Nat.one_ne_zero, Nat.zero_ne_one, Nat.zero_add, Nat.add_zero, if_true, if_false, not_true_eq_false, not_false_eq_true, gm_I M, hsM, Nat.reduceEqDiff])
  by_cases v7 : v = nI 7
  · subst v7
    exact jO_same J (r := I 136 31) (by simp (disch := omega) only [fX0_count, nL, nI_add, nJ_mul, nJ_div, nJ_mod, nI_leI, nI_ltI, nI_eq, Option.bind_some, Option.bind_none, Nat.one_ne_zero, Nat.zero_ne_one, Nat.zero_add, Nat.add_zero, if_true, if_false, not_true_eq_false, not_false_eq_true, gx_I X, h15, Nat.reduceEqDiff]) (by simp (disch := omega) only [fX3_count, nL, nI_add, nJ_mul, nJ_div, nJ_mod, nI_leI, nI_ltI, nI_eq, Option.bind_some, Option.bind_none, Nat.one_ne_zero, Nat.zero_ne_one, Nat.zero_add, Nat.add_zero, if_true, if_false, not_true_eq_false, not_false_eq_true, gm_I M, Nat.reduceEqDiff])
  by_cases v12 : v = nI 12
  · subst v12
    exact jO_same J (r := nI (lA A 1 8)) (by simp (disch := omega) only [fX0_count, nL, nI_add, nJ_mul, nJ_div, nJ_mod, nI_leI, nI_ltI, nI_eq, Option.bind_some, Option.bind_none, Nat.one_ne_zero, Nat.zero_ne_one, Nat.zero_add, Nat.add_zero, if_true, if_false, not_true_eq_false, not_false_eq_true, gx_I X, B7, Nat.reduceEqDiff]) (by simp (disch := omega) only [fX3_count, nL, nI_add, nJ_mul, nJ_div, nJ_mod, nI_leI, nI_ltI, nI_eq, Option.bind_some, Option.bind_none, Nat.one_ne_zero, Nat.zero_ne_one, Nat.zero_add, Nat.add_zero, if_true, if_false, not_true_eq_false, not_false_eq_true, gm1 M, xm137 M, rm1 RM, Nat.reduceEqDiff])
  by_cases v13 : v = nI 13
  · subst v13
    exact jO_same J (r := I 136 27) (by simp (disch := omega) only [fX0_count, nL, nI_add, nJ_mul, nJ_div, nJ_mod, nI_leI, nI_ltI, nI_eq, Option.bind_some, Option.bind_none, Nat.one_ne_zero, Nat.zero_ne_one, Nat.zero_add, Nat.add_zero, if_true, if_false, not_true_eq_false, not_false_eq_true, gx_I X, h10, Nat.reduceEqDiff]) (by simp (disch := omega) only [fX3_count, nL, nI_add, nJ_mul, nJ_div, nJ_mod, nI_leI, nI_ltI, nI_eq, Option.bind_some, Option.bind_none, Nat.one_ne_zero, Nat.zero_ne_one, Nat.zero_add, Nat.add_zero, if_true, if_false, not_true_eq_false, not_false_eq_true, gm_I M, Nat.reduceEqDiff])
  have x1 := xin_lit (v := v) (lo := 0) (hi := 13) (l := 0) (k := 13) (by decide +kernel) (by decide +kernel) (hw q I L)
  have hx : fX0_count 64 v (hw q I L) = fX0_count_L68 64 v (hw q I L) := by
    simp (disch := omega) only [fX0_count, nL, nI_add, nJ_mul, nJ_div, nJ_mod, nI_leI, nI_ltI, nI_eq, Option.bind_some, Option.bind_none, Nat.one_ne_zero, Nat.zero_ne_one, Nat.zero_add, Nat.add_zero, if_true, if_false, not_true_eq_false, not_false_eq_true, v6, v7, v12, v13]
  have hland : ∀ j, j < 8 → isL A = false → lA A 1 j = 0 := fun j hj c => (B.none c).2.1 j hj
  cases c1 : inR v 0 13
  · refine jO_same J (r := -(nI 1)) (by rw [hx]; simp (disch := omega) only [fX0_count_L68, nL, nI_add, nJ_mul, nJ_div, nJ_mod, nI_leI, nI_ltI, nI_eq, Option.bind_some, Option.bind_none, Nat.one_ne_zero, Nat.zero_ne_one, Nat.zero_add, Nat.add_zero, if_true, if_false, not_true_eq_false, not_false_eq_true, x1, c1, Bool.false_eq_true]) ?_
    have ne : ∀ k, k ≤ 13 → ¬ v = nI k := fun k hk z => by
      subst z
      have : inR (nI k) 0 13 = true := inR_iff.mpr (by rw [nI_toInt (by omega)]; omega)
      rw [this] at c1; cases c1
    simp (disch := omega) only [fX3_count, nL, nI_add, nJ_mul, nJ_div, nJ_mod, nI_leI, nI_ltI, nI_eq, Option.bind_some, Option.bind_none, Nat.one_ne_zero, Nat.zero_ne_one, Nat.zero_add, Nat.add_zero, if_true, if_false, not_true_eq_false, not_false_eq_true, ne 0 (by omega), ne 1 (by omega), ne 2 (by omega), ne 3 (by omega), ne 4 (by omega), ne 5 (by omega), ne 6 (by omega), ne 7 (by omega), ne 8 (by omega), ne 9 (by omega), ne 10 (by omega), ne 11 (by omega), ne 12 (by omega), ne 13 (by omega)]
  · obtain ⟨k, -, hk, rfl⟩ := inR_of c1 (by omega)
    have k6 : k ≠ 6 := fun z => v6 (by rw [z])
    have k7 : k ≠ 7 := fun z => v7 (by rw [z])
    have k12 : k ≠ 12 := fun z => v12 (by rw [z])
    have k13 : k ≠ 13 := fun z => v13 (by rw [z])
    have m1 := kE_isLandB (L := L) K
    have m2 := mE_manyHeld (L := L) M RM (who := 6) (Or.inr rfl) W
    have hk2 : k = 0 ∨ k = 1 ∨ k = 2 ∨ k = 3 ∨ k = 4 ∨ k = 5 ∨ k = 8 ∨ k = 9 ∨ k = 10 ∨ k = 11 := by omega
    cases c : isL A
    · obtain ⟨hn, hb⟩ := B.none c
      rcases hk2 with rfl | rfl | rfl | rfl | rfl | rfl | rfl | rfl | rfl | rfl
      · exact jO_same J (r := nI 0) (by rw [hx]; simp (disch := omega) only [fX0_count_L68, nL, nI_add, nJ_mul, nJ_div, nJ_mod, nI_leI, nI_ltI, nI_eq, Option.bind_some, Option.bind_none, Nat.one_ne_zero, Nat.zero_ne_one, Nat.zero_add, Nat.add_zero, if_true, if_false, not_true_eq_false, not_false_eq_true, x1, c1, gx2n X hn, nq_0, Nat.reduceEqDiff]) (by simp (disch := omega) only [fX3_count, nL, nI_add, nJ_mul, nJ_div, nJ_mod, nI_leI, nI_ltI, nI_eq, Option.bind_some, Option.bind_none, Nat.one_ne_zero, Nat.zero_ne_one, Nat.zero_add, Nat.add_zero, if_true, if_false, not_true_eq_false, not_false_eq_true, gm1 M, xm137 M, rm1 RM, hb.1 0 (by decide), Nat.reduceEqDiff])
      · exact jO_same J (r := nI 0) (by rw [hx]; simp (disch := omega) only [fX0_count_L68, nL, nI_add, nJ_mul, nJ_div, nJ_mod, nI_leI, nI_ltI, nI_eq, Option.bind_some, Option.bind_none, Nat.one_ne_zero, Nat.zero_ne_one, Nat.zero_add, Nat.add_zero, if_true, if_false, not_true_eq_false, not_false_eq_true, x1, c1, gx2n X hn, nq_0, Nat.reduceEqDiff]) (by simp (disch := omega) only [fX3_count, nL, nI_add, nJ_mul, nJ_div, nJ_mod, nI_leI, nI_ltI, nI_eq, Option.bind_some, Option.bind_none, Nat.one_ne_zero, Nat.zero_ne_one, Nat.zero_add, Nat.add_zero, if_true, if_false, not_true_eq_false, not_false_eq_true, gm1 M, xm137 M, rm1 RM, hb.1 1 (by decide), Nat.reduceEqDiff])
      · exact jO_same J (r := nI 0) (by rw [hx]; simp (disch := omega) only [fX0_count_L68, nL, nI_add, nJ_mul, nJ_div, nJ_mod, nI_leI, nI_ltI, nI_eq, Option.bind_some, Option.bind_none, Nat.one_ne_zero, Nat.zero_ne_one, Nat.zero_add, Nat.add_zero, if_true, if_false, not_true_eq_false, not_false_eq_true, x1, c1, gx2n X hn, nq_0, Nat.reduceEqDiff]) (by simp (disch := omega) only [fX3_count, nL, nI_add, nJ_mul, nJ_div, nJ_mod, nI_leI, nI_ltI, nI_eq, Option.bind_some, Option.bind_none, Nat.one_ne_zero, Nat.zero_ne_one, Nat.zero_add, Nat.add_zero, if_true, if_false, not_true_eq_false, not_false_eq_true, gm1 M, xm137 M, rm1 RM, hb.1 2 (by decide), Nat.reduceEqDiff])
      · exact jO_same J (r := nI 0) (by rw [hx]; simp (disch := omega) only [fX0_count_L68, nL, nI_add, nJ_mul, nJ_div, nJ_mod, nI_leI, nI_ltI, nI_eq, Option.bind_some, Option.bind_none, Nat.one_ne_zero, Nat.zero_ne_one, Nat.zero_add, Nat.add_zero, if_true, if_false, not_true_eq_false, not_false_eq_true, x1, c1, gx2n X hn, nq_0, Nat.reduceEqDiff]) (by simp (disch := omega) only [fX3_count, nL, nI_add, nJ_mul, nJ_div, nJ_mod, nI_leI, nI_ltI, nI_eq, Option.bind_some, Option.bind_none, Nat.one_ne_zero, Nat.zero_ne_one, Nat.zero_add, Nat.add_zero, if_true, if_false, not_true_eq_false, not_false_eq_true, gm1 M, xm137 M, rm1 RM, hb.1 3 (by decide), Nat.reduceEqDiff])
      · exact jO_same J (r := nI 0) (by rw [hx]; simp (disch := omega) only [fX0_count_L68, nL, nI_add, nJ_mul, nJ_div, nJ_mod, nI_leI, nI_ltI, nI_eq, Option.bind_some, Option.bind_none, Nat.one_ne_zero, Nat.zero_ne_one, Nat.zero_add, Nat.add_zero, if_true, if_false, not_true_eq_false, not_false_eq_true, x1, c1, gx2n X hn, nq_0, Nat.reduceEqDiff]) (by simp (disch := omega) only [fX3_count, nL, nI_add, nJ_mul, nJ_div, nJ_mod, nI_leI, nI_ltI, nI_eq, Option.bind_some, Option.bind_none, Nat.one_ne_zero, Nat.zero_ne_one, Nat.zero_add, Nat.add_zero, if_true, if_false, not_true_eq_false, not_false_eq_true, gm1 M, xm137 M, rm1 RM, hb.1 4 (by decide), Nat.reduceEqDiff])
      · exact jO_same J (r := nI 0) (by rw [hx]; simp (disch := omega) only [fX0_count_L68, nL, nI_add, nJ_mul, nJ_div, nJ_mod, nI_leI, nI_ltI, nI_eq, Option.bind_some, Option.bind_none, Nat.one_ne_zero, Nat.zero_ne_one, Nat.zero_add, Nat.add_zero, if_true, if_false, not_true_eq_false, not_false_eq_true, x1, c1, gx2n X hn, nq_0, Nat.reduceEqDiff]) (by simp (disch := omega) only [fX3_count, nL, nI_add, nJ_mul, nJ_div, nJ_mod, nI_leI, nI_ltI, nI_eq, Option.bind_some, Option.bind_none, Nat.one_ne_zero, Nat.zero_ne_one, Nat.zero_add, Nat.add_zero, if_true, if_false, not_true_eq_false, not_false_eq_true, gm1 M, xm137 M, rm1 RM, hb.1 5 (by decide), Nat.reduceEqDiff])
      · exact jO_same J (r := nI 0) (by rw [hx]; simp (disch := omega) only [fX0_count_L68, nL, nI_add, nJ_mul, nJ_div, nJ_mod, nI_leI, nI_ltI, nI_eq, Option.bind_some, Option.bind_none, Nat.one_ne_zero, Nat.zero_ne_one, Nat.zero_add, Nat.add_zero, if_true, if_false, not_true_eq_false, not_false_eq_true, x1, c1, gx2n X hn, nq_0, Nat.reduceEqDiff]) (by simp (disch := omega) only [fX3_count, nL, nI_add, nJ_mul, nJ_div, nJ_mod, nI_leI, nI_ltI, nI_eq, Option.bind_some, Option.bind_none, Nat.one_ne_zero, Nat.zero_ne_one, Nat.zero_add, Nat.add_zero, if_true, if_false, not_true_eq_false, not_false_eq_true, gm1 M, xm137 M, rm1 RM, hb.1 6 (by decide), Nat.reduceEqDiff])
      · exact jO_same J (r := -(nI 1)) (by rw [hx]; simp (disch := omega) only [fX0_count_L68, nL, nI_add, nJ_mul, nJ_div, nJ_mod, nI_leI, nI_ltI, nI_eq, Option.bind_some, Option.bind_none, Nat.one_ne_zero, Nat.zero_ne_one, Nat.zero_add, Nat.add_zero, if_true, if_false, not_true_eq_false, not_false_eq_true, x1, c1, gx2n X hn, nq_0, Nat.reduceEqDiff]) (by simp (disch := omega) only [fX3_count, nL, nI_add, nJ_mul, nJ_div, nJ_mod, nI_leI, nI_ltI, nI_eq, Option.bind_some, Option.bind_none, Nat.one_ne_zero, Nat.zero_ne_one, Nat.zero_add, Nat.add_zero, if_true, if_false, not_true_eq_false, not_false_eq_true, dm M, m1, c, Nat.reduceEqDiff, Bool.false_eq_true])
      · exact jO_same J (r := nI 0) (by rw [hx]; simp (disch := omega) only [fX0_count_L68, nL, nI_add, nJ_mul, nJ_div, nJ_mod, nI_leI, nI_ltI, nI_eq, Option.bind_some, Option.bind_none, Nat.one_ne_zero, Nat.zero_ne_one, Nat.zero_add, Nat.add_zero, if_true, if_false, not_true_eq_false, not_false_eq_true, x1, c1, gx2n X hn, nq_0, Nat.reduceEqDiff]) (by simp (disch := omega) only [fX3_count, nL, nI_add, nJ_mul, nJ_div, nJ_mod, nI_leI, nI_ltI, nI_eq, Option.bind_some, Option.bind_none, Nat.one_ne_zero, Nat.zero_ne_one, Nat.zero_add, Nat.add_zero, if_true, if_false, not_true_eq_false, not_false_eq_true, gm1 M, xm137 M, rm1 RM, hb.1 7 (by decide), Nat.reduceEqDiff])
      · exact jO_same J (r := nI 0) (by rw [hx]; simp (disch := omega) only [fX0_count_L68, nL, nI_add, nJ_mul, nJ_div, nJ_mod, nI_leI, nI_ltI, nI_eq, Option.bind_some, Option.bind_none, Nat.one_ne_zero, Nat.zero_ne_one, Nat.zero_add, Nat.add_zero, if_true, if_false, not_true_eq_false, not_false_eq_true, x1, c1, gx2n X hn, nq_0, Nat.reduceEqDiff]) (by simp (disch := omega) only [fX3_count, nL, nI_add, nJ_mul, nJ_div, nJ_mod, nI_leI, nI_ltI, nI_eq, Option.bind_some, Option.bind_none, Nat.one_ne_zero, Nat.zero_ne_one, Nat.zero_add, Nat.add_zero, if_true, if_false, not_true_eq_false, not_false_eq_true, gm_I M, rmU RM, hb.2, Nat.reduceEqDiff])
    · obtain ⟨KB, hl⟩ := B.K (isL_iff.mp c)
      obtain ⟨-, G, R, -⟩ := id KB
      have e3 := bE_heldMany (L := L) G R W (who := 6) (Or.inr rfl)
      rcases hk2 with rfl | rfl | rfl | rfl | rfl | rfl | rfl | rfl | rfl | rfl
      · exact jO_same J (r := nI (lA A 1 0)) (by rw [hx]; simp (disch := omega) only [fX0_count_L68, nL, nI_add, nJ_mul, nJ_div, nJ_mod, nI_leI, nI_ltI, nI_eq, Option.bind_some, Option.bind_none, Nat.one_ne_zero, Nat.zero_ne_one, Nat.zero_add, Nat.add_zero, if_true, if_false, not_true_eq_false, not_false_eq_true, x1, c1, gx2 X hl, nq_66, gl_I G, R.f0, Nat.reduceEqDiff]) (by simp (disch := omega) only [fX3_count, nL, nI_add, nJ_mul, nJ_div, nJ_mod, nI_leI, nI_ltI, nI_eq, Option.bind_some, Option.bind_none, Nat.one_ne_zero, Nat.zero_ne_one, Nat.zero_add, Nat.add_zero, if_true, if_false, not_true_eq_false, not_false_eq_true, gm1 M, xm137 M, rm1 RM, Nat.reduceEqDiff])
      · exact jO_same J (r := nI (lA A 1 1)) (by rw [hx]; simp (disch := omega) only [fX0_count_L68, nL, nI_add, nJ_mul, nJ_div, nJ_mod, nI_leI, nI_ltI, nI_eq, Option.bind_some, Option.bind_none, Nat.one_ne_zero, Nat.zero_ne_one, Nat.zero_add, Nat.add_zero, if_true, if_false, not_true_eq_false, not_false_eq_true, x1, c1, gx2 X hl, nq_66, gl_I G, R.f1, Nat.reduceEqDiff]) (by simp (disch := omega) only [fX3_count, nL, nI_add, nJ_mul, nJ_div, nJ_mod, nI_leI, nI_ltI, nI_eq, Option.bind_some, Option.bind_none, Nat.one_ne_zero, Nat.zero_ne_one, Nat.zero_add, Nat.add_zero, if_true, if_false, not_true_eq_false, not_false_eq_true, gm1 M, xm137 M, rm1 RM, Nat.reduceEqDiff])
      · exact jO_same J (r := nI (lA A 1 2)) (by rw [hx]; simp (disch := omega) only [fX0_count_L68, nL, nI_add, nJ_mul, nJ_div, nJ_mod, nI_leI, nI_ltI, nI_eq, Option.bind_some, Option.bind_none, Nat.one_ne_zero, Nat.zero_ne_one, Nat.zero_add, Nat.add_zero, if_true, if_false, not_true_eq_false, not_false_eq_true, x1, c1, gx2 X hl, nq_66, gl_I G, R.f2, Nat.reduceEqDiff]) (by simp (disch := omega) only [fX3_count, nL, nI_add, nJ_mul, nJ_div, nJ_mod, nI_leI, nI_ltI, nI_eq, Option.bind_some, Option.bind_none, Nat.one_ne_zero, Nat.zero_ne_one, Nat.zero_add, Nat.add_zero, if_true, if_false, not_true_eq_false, not_false_eq_true, gm1 M, xm137 M, rm1 RM, Nat.reduceEqDiff])
      · exact jO_same J (r := nI (lA A 1 3)) (by rw [hx]; simp (disch := omega) only [fX0_count_L68, nL, nI_add, nJ_mul, nJ_div, nJ_mod, nI_leI, nI_ltI, nI_eq, Option.bind_some, Option.bind_none, Nat.one_ne_zero, Nat.zero_ne_one, Nat.zero_add, Nat.add_zero, if_true, if_false, not_true_eq_false, not_false_eq_true, x1, c1, gx2 X hl, nq_66, gl_I G, R.f3, Nat.reduceEqDiff]) (by simp (disch := omega) only [fX3_count, nL, nI_add, nJ_mul, nJ_div, nJ_mod, nI_leI, nI_ltI, nI_eq, Option.bind_some, Option.bind_none, Nat.one_ne_zero, Nat.zero_ne_one, Nat.zero_add, Nat.add_zero, if_true, if_false, not_true_eq_false, not_false_eq_true, gm1 M, xm137 M, rm1 RM, Nat.reduceEqDiff])
      · exact jO_same J (r := nI (lA A 1 4)) (by rw [hx]; simp (disch := omega) only [fX0_count_L68, nL, nI_add, nJ_mul, nJ_div, nJ_mod, nI_leI, nI_ltI, nI_eq, Option.bind_some, Option.bind_none, Nat.one_ne_zero, Nat.zero_ne_one, Nat.zero_add, Nat.add_zero, if_true, if_false, not_true_eq_false, not_false_eq_true, x1, c1, gx2 X hl, nq_66, gl_I G, R.f4, Nat.reduceEqDiff]) (by simp (disch := omega) only [fX3_count, nL, nI_add, nJ_mul, nJ_div, nJ_mod, nI_leI, nI_ltI, nI_eq, Option.bind_some, Option.bind_none, Nat.one_ne_zero, Nat.zero_ne_one, Nat.zero_add, Nat.add_zero, if_true, if_false, not_true_eq_false, not_false_eq_true, gm1 M, xm137 M, rm1 RM, Nat.reduceEqDiff])
      · exact jO_same J (r := nI (lA A 1 5)) (by rw [hx]; simp (disch := omega) only [fX0_count_L68, nL, nI_add, nJ_mul, nJ_div, nJ_mod, nI_leI, nI_ltI, nI_eq, Option.bind_some, Option.bind_none, Nat.one_ne_zero, Nat.zero_ne_one, Nat.zero_add, Nat.add_zero, if_true, if_false, not_true_eq_false, not_false_eq_true, x1, c1, gx2 X hl, nq_66, gl_I G, R.f5, Nat.reduceEqDiff]) (by simp (disch := omega) only [fX3_count, nL, nI_add, nJ_mul, nJ_div, nJ_mod, nI_leI, nI_ltI, nI_eq, Option.bind_some, Option.bind_none, Nat.one_ne_zero, Nat.zero_ne_one, Nat.zero_add, Nat.add_zero, if_true, if_false, not_true_eq_false, not_false_eq_true, gm1 M, xm137 M, rm1 RM, Nat.reduceEqDiff])
      · exact jO_same J (r := nI (lA A 1 6)) (by rw [hx]; simp (disch := omega) only [fX0_count_L68, nL, nI_add, nJ_mul, nJ_div, nJ_mod, nI_leI, nI_ltI, nI_eq, Option.bind_some, Option.bind_none, Nat.one_ne_zero, Nat.zero_ne_one, Nat.zero_add, Nat.add_zero, if_true, if_false, not_true_eq_false, not_false_eq_true, x1, c1, gx2 X hl, nq_66, gl_I G, R.f6, Nat.reduceEqDiff]) (by simp (disch := omega) only [fX3_count, nL, nI_add, nJ_mul, nJ_div, nJ_mod, nI_leI, nI_ltI, nI_eq, Option.bind_some, Option.bind_none, Nat.one_ne_zero, Nat.zero_ne_one, Nat.zero_add, Nat.add_zero, if_true, if_false, not_true_eq_false, not_false_eq_true, gm1 M, xm137 M, rm1 RM, Nat.reduceEqDiff])
      · exact jO_same J (r := nI (fb_ct (lH A 6) 256)) (by rw [hx]; simp (disch := omega) only [fX0_count_L68, nL, nI_add, nJ_mul, nJ_div, nJ_mod, nI_leI, nI_ltI, nI_eq, Option.bind_some, Option.bind_none, Nat.one_ne_zero, Nat.zero_ne_one, Nat.zero_add, Nat.add_zero, if_true, if_false, not_true_eq_false, not_false_eq_true, x1, c1, gx2 X hl, nq_66, dl G, e3, Nat.reduceEqDiff]) (by simp (disch := omega) only [fX3_count, nL, nI_add, nJ_mul, nJ_div, nJ_mod, nI_leI, nI_ltI, nI_eq, Option.bind_some, Option.bind_none, Nat.one_ne_zero, Nat.zero_ne_one, Nat.zero_add, Nat.add_zero, if_true, if_false, not_true_eq_false, not_false_eq_true, dm M, m1, c, m2, Nat.reduceEqDiff])
      · exact jO_same J (r := nI (lA A 1 7)) (by rw [hx]; simp (disch := omega) only [fX0_count_L68, nL, nI_add, nJ_mul, nJ_div, nJ_mod, nI_leI, nI_ltI, nI_eq, Option.bind_some, Option.bind_none, Nat.one_ne_zero, Nat.zero_ne_one, Nat.zero_add, Nat.add_zero, if_true, if_false, not_true_eq_false, not_false_eq_true, x1, c1, gx2 X hl, nq_66, gl_I G, R.f8, Nat.reduceEqDiff]) (by simp (disch := omega) only [fX3_count, nL, nI_add, nJ_mul, nJ_div, nJ_mod, nI_leI, nI_ltI, nI_eq, Option.bind_some, Option.bind_none, Nat.one_ne_zero, Nat.zero_ne_one, Nat.zero_add, Nat.add_zero, if_true, if_false, not_true_eq_false, not_false_eq_true, gm1 M, xm137 M, rm1 RM, Nat.reduceEqDiff])
      · exact jO_same J (r := nI (lA A 0 0)) (by rw [hx]; simp (disch := omega) only [fX0_count_L68, fX0_count_L234, nL, nI_add, nJ_mul, nJ_div, nJ_mod, nI_leI, nI_ltI, nI_eq, Option.bind_some, Option.bind_none, Nat.one_ne_zero, Nat.zero_ne_one, Nat.zero_add, Nat.add_zero, if_true, if_false, not_true_eq_false, not_false_eq_true, x1, c1, gx2 X hl, nq_66, gl_I G, R.f7, Nat.reduceEqDiff]) (by simp (disch := omega) only [fX3_count, nL, nI_add, nJ_mul, nJ_div, nJ_mod, nI_leI, nI_ltI, nI_eq, Option.bind_some, Option.bind_none, Nat.one_ne_zero, Nat.zero_ne_one, Nat.zero_add, Nat.add_zero, if_true, if_false, not_true_eq_false, not_false_eq_true, gm_I M, rmU RM, Nat.reduceEqDiff])
end JE
