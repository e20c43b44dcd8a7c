/-! P2 JN5: both answer: plan -/
section JN5
variable {q : ph_t} {I : iF} {L : lF_} {A : ld_t} {T : Nat → Nat → Bool} {sM : Nat}
theorem frX.s {I I' : iF} {L : lF_} (h : frX I I') (K : bK q 66 I L A T sM) (h66 : ∀ a, 66 ≤ a → a < 80 → I' a = I a) : bK q 66 I' L A T sM := by
  obtain ⟨X, G, R, hT, hsM, W, h24, hg⟩ := K
  exact ⟨X, G, glR_keep W R (fun a h1 h2 => h66 a h1 (by omega)) (fun _ _ _ => rfl), hT, by rw [h.2 1 (by decide) (by decide) (by decide) (by decide) (by decide) (by decide) (by decide)]; exact hsM, W, h24, hg⟩
/-- the search, and the answer -/
theorem bK_pl177 (K : bK q 66 I L A T sM) (hl : ph_R q 64 2 = some 66) {v w : Nat} (hv : v ≤ 1) (hw8 : w ≤ 8) (h4 : (gP A v (lA A 1 2)).1 ≤ 4) (h18 : I 64 18 = nI (gP A v (lA A 1 2)).1) (h129 : ∀ k, k < (gP A v (lA A 1 2)).1 → I 129 k = nI ((gP A v (lA A 1 2)).2 k)) (p : Nat) (hp : p = lA A 1 2) : ∃ I' L', fX0_plan_L105_b 64 (nI v) (nI w) (nI p) (hw q I L) = some (.inr (plR A T sM v w, hw q I' L')) ∧ frX I I' ∧ frXL L L' ∧ bK q 66 I' L' A T sM ∧ I' 64 7 = I 64 7 := by
  subst hp
  obtain ⟨X, G, R, hT, hsM, W, h24, -⟩ := id K
  have w2 := W.1.2.2.1
  have hgs := gP_lt (A := A) (v := v) (lA A 1 2)
  unfold plR plF
  generalize gP A v (lA A 1 2) = z at h4 h18 h129 hgs
  obtain ⟨gm, gs⟩ := z
  dsimp only at h4 h18 h129 hgs ⊢
  have f1 : frX I (ph_u I 64 22 (nI 0)) := frX.rf.up (by omega)
  have K1 := f1.s K (fun a h1 h2 => by rw [pu_ne (by omega)])
  obtain ⟨I2, L2, b1, b2, b3, b4⟩ := bK_copies (L := L) K1 X.spare (by decide) (by decide)
  have K2 := K1.off (g' := 80) (by decide) (by decide) b2 b3
  have hbd := pl_bd (A := A) (T := T) (sM := sM) (gs := gs) (gm := gm) gm 0 (fun _ => 0) (lH A 6) (0, fun _ => 0) (fun k hk => absurd hk (Nat.not_lt_zero k)) (fun k hk => absurd hk (Nat.not_lt_zero k))
  obtain ⟨I3, L3, d1, d2, d3, d4, d5⟩ := bK_pl W hgs h4 gm 0 128 (by omega) (by omega) (fun _ => 0) (lH A 6) (0, fun _ => 0) 0 I2 L2 (by rw [lHs_s]; exact b4) (fun w h => W.2.2.2.2.2 6 w (Or.inr rfl) h) ⟨by rw [b2 64 (by decide), pu_nk (by decide)]; exact h18, fun k hk => by rw [b2 129 (by decide), pu_ne (by decide)]; exact h129 k hk, by rw [b2 64 (by decide), pu_eq], fun k hk => absurd hk (Nat.not_lt_zero k), Nat.zero_le _⟩ (fun k hk => absurd hk (Nat.not_lt_zero k)) ⟨by decide, fun k _ => by rw [Nat.zero_testBit]; rfl⟩
  rw [show plU 0 (fun _ => 0) (0, fun _ => 0) = ((0, fun _ => 0) : plb_t) from if_neg (by decide)] at d2
  generalize pl A T sM gs gm gm 0 (fun _ => 0) (lH A 6) (0, fun _ => 0) = b at d2 hbd
  obtain ⟨y1, y2, y3, y4, y5⟩ := d2
  have f3 : frX I2 I3 := ⟨fun a ha => d3.1 a (by omega) (by omega) (by omega), fun j _ _ h22 _ _ _ _ => d3.2.1 j h22⟩
  have K3 : bK q 66 I3 L3 A T sM := ⟨X, G, glR_keep W K2.2.2.1 (fun a h1 h2 => d3.1 a (by omega) (by omega) (by omega)) (fun a h1 h2 => d4.1 a (by omega) (by omega)), by rw [d4.1 65 (by decide) (by decide)]; exact K2.2.2.2.1, by rw [d3.2.1 1 (by decide)]; exact K2.2.2.2.2.1, W, h24, by decide⟩
  refine ⟨I3, L3, ?_, (f1.tr (b2.X (Or.inr rfl))).tr f3, (b3.X (Or.inr rfl)).tr (fun a ha => d4.1 a (by omega) (by omega)), K3, by rw [d3.2.1 7 (by decide), b2 64 (by decide), pu_nk (by decide)]⟩
  by_cases c0 : w = 0
  · subst c0
    simp (disch := omega) only [fX0_plan_L105_b, nL, nI_add, nJ_mul, nJ_div, nJ_mod, nI_leI, nI_ltI, nI_eq, Option.bind_some, Option.bind_none, Nat.one_ne_zero, Nat.zero_ne_one, Nat.zero_add, Nat.add_zero, if_true, if_false, not_true_eq_false, not_false_eq_true, gx2 X hl, gl_I G, R.f2, Nat.le_refl, sx_I X, gx4 X, dg X.spare, b1, dx X, d1, gx_I X, y3, xr_s]
  · by_cases c1 : 2 * b.1 < w
    · simp (disch := omega) only [fX0_plan_L105_b, nL, nI_add, nJ_mul, nJ_div, nJ_mod, nI_leI, nI_ltI, nI_eq, Option.bind_some, Option.bind_none, Nat.one_ne_zero, Nat.zero_ne_one, Nat.zero_add, Nat.add_zero, if_true, if_false, not_true_eq_false, not_false_eq_true, gx2 X hl, gl_I G, R.f2, Nat.le_refl, sx_I X, gx4 X, dg X.spare, b1, dx X, d1, gx_I X, y3, c0, c1, xr_s]
    · have y4 := y4 ((w - 1) / 2) (by omega)
      by_cases c2 : w % 2 = 1
      · have e : 2 * ((w - 1) / 2) = w - 1 := by omega
        rw [e] at y4
        simp (disch := omega) only [fX0_plan_L105_b, nL, nI_add, nJ_mul, nJ_div, nJ_mod, nI_leI, nI_ltI, nI_eq, Option.bind_some, Option.bind_none, Nat.one_ne_zero, Nat.zero_ne_one, Nat.zero_add, Nat.add_zero, if_true, if_false, not_true_eq_false, not_false_eq_true, nJ_sub, gx2 X hl, gl_I G, R.f2, Nat.le_refl, sx_I X, gx4 X, dg X.spare, b1, dx X, d1, gx_I X, y3, c0, c1, c2, gx20 X, xx131 X, y4.1, xr_s]
      · have e : 2 * ((w - 1) / 2) + 1 = w - 1 := by omega
        rw [e] at y4
        simp (disch := omega) only [fX0_plan_L105_b, nL, nI_add, nJ_mul, nJ_div, nJ_mod, nI_leI, nI_ltI, nI_eq, Option.bind_some, Option.bind_none, Nat.one_ne_zero, Nat.zero_ne_one, Nat.zero_add, Nat.add_zero, if_true, if_false, not_true_eq_false, not_false_eq_true, nJ_sub, gx2 X hl, gl_I G, R.f2, Nat.le_refl, sx_I X, gx4 X, dg X.spare, b1, dx X, d1, gx_I X, y3, c0, c1, c2, gx20 X, xx131 X, y4.2, xr_s]
theorem bK_pl105 (K : bK q 66 I L A T sM) (hl : ph_R q 64 2 = some 66) {v w : Nat} (hv : v ≤ 1) (hw8 : w ≤ 8) (h4 : (gP A v (lA A 1 2)).1 ≤ 4) (h18 : I 64 18 = nI 0) : ∃ I' L', fX0_plan_L105 64 (nI v) (nI w) (nI 0) (hw q I L) = some (plR A T sM v w, hw q I' L') ∧ frX I I' ∧ frXL L L' ∧ bK q 66 I' L' A T sM ∧ I' 64 7 = I 64 7 := by
  obtain ⟨X, G, R, hT, hsM, W, h24, -⟩ := id K
  have w2 := W.1.2.2.1
  have : ∃ t, fX0_plan_L105 64 (nI v) (nI w) (nI 0) (hw q I L) = some t ∧ ∃ I' L', t = (plR A T sM v w, hw q I' L') ∧ frX I I' ∧ frXL L L' ∧ bK q 66 I' L' A T sM ∧ I' 64 7 = I 64 7 := by
    unfold fX0_plan_L105
    refine whl_st (α := iF) (fun k U => (nI k, hw q U L)) (fun p U => (∀ a, a ≠ 64 → a ≠ 129 → U a = I a) ∧ (∀ j, j ≠ 18 → U 64 j = I 64 j) ∧ U 64 18 = nI (gP A v p).1 ∧ ∀ k, k < (gP A v p).1 → U 129 k = nI ((gP A v p).2 k)) (lA A 1 2) (a := I) rfl ⟨fun _ _ _ => rfl, fun _ _ => rfl, h18, fun k hk => absurd hk (Nat.not_lt_zero k)⟩ ?_ ?_
    · rintro p U hp ⟨f1, f2, f3, f4⟩
      have r2 : U 66 2 = nI (lA A 1 2) := by rw [f1 66 (by decide) (by decide)]; exact R.f2
      have w := W.2.1 p hp
      have e2 : U 67 p = nI (lA A 2 p) := by rw [f1 67 (by decide) (by decide)]; exact rl1 R hp
      have e6 : U 71 p = nI (lA A 6 p) := by rw [f1 71 (by decide) (by decide)]; exact rl5 R hp
      by_cases c1 : lA A 2 p = v
      · by_cases c2 : lA A 6 p = 0
        · have gmo := gP_mo (A := A) (v := v) (m := p + 1) (lA A 1 2) (by omega)
          rw [gP_1 ⟨c1, c2⟩] at gmo ⊢
          dsimp only at gmo
          refine ⟨ph_u (ph_u U 129 (gP A v p).1 (nI p)) 64 18 (nI ((gP A v p).1 + 1)), ?_, fun a h1 h2 => by rw [pu_ne h1, pu_ne h2]; exact f1 a h1 h2, fun j hj => by rw [pu_nk hj, pu_ne (by decide)]; exact f2 j hj, by rw [pu_eq], fun k hk => ?_⟩
          · simp (disch := omega) only [fX0_plan_L105_b, fX0_plan_L169, nL, nI_add, nJ_mul, nJ_div, nJ_mod, nI_leI, nI_ltI, nI_eq, Option.bind_some, Option.bind_none, Nat.one_ne_zero, Nat.zero_ne_one, Nat.zero_add, Nat.add_zero, if_true, if_false, not_true_eq_false, not_false_eq_true, gx2 X hl, gl_I G, r2, show ¬ lA A 1 2 ≤ p by omega, gl9 G, xl9 G, e2, c1, gl13 G, xl13 G, e6, c2, gx17 X, gx_I X, f3, yx129 X, pu_ne, sx_I X]
          · dsimp only at hk ⊢
            rw [pu_ne (by decide), pu_at]
            unfold upN
            by_cases c : k = (gP A v p).1
            · rw [if_pos c, if_pos c]
            · rw [if_neg c, if_neg c]
              exact f4 k (by omega)
        · rw [gP_0 (fun z => c2 z.2)]
          have c3 : lA A 6 p = 1 := by omega
          exact ⟨U, by simp (disch := omega) only [fX0_plan_L105_b, fX0_plan_L169, nL, nI_add, nJ_mul, nJ_div, nJ_mod, nI_leI, nI_ltI, nI_eq, Option.bind_some, Option.bind_none, Nat.one_ne_zero, Nat.zero_ne_one, Nat.zero_add, Nat.add_zero, if_true, if_false, not_true_eq_false, not_false_eq_true, gx2 X hl, gl_I G, r2, show ¬ lA A 1 2 ≤ p by omega, gl9 G, xl9 G, e2, c1, gl13 G, xl13 G, e6, c3], f1, f2, f3, f4⟩
      · rw [gP_0 (fun z => c1 z.1)]
        exact ⟨U, by simp (disch := omega) only [fX0_plan_L105_b, fX0_plan_L169, nL, nI_add, nJ_mul, nJ_div, nJ_mod, nI_leI, nI_ltI, nI_eq, Option.bind_some, Option.bind_none, Nat.one_ne_zero, Nat.zero_ne_one, Nat.zero_add, Nat.add_zero, if_true, if_false, not_true_eq_false, not_false_eq_true, gx2 X hl, gl_I G, r2, show ¬ lA A 1 2 ≤ p by omega, gl9 G, xl9 G, e2, c1], f1, f2, f3, f4⟩
    · rintro U ⟨f1, f2, f3, f4⟩
      have fX : frX I U := ⟨fun a ha => f1 a (by omega) (by omega), fun j _ h18 _ _ _ _ _ => f2 j h18⟩
      obtain ⟨I', L', a1, a2, a3, a4, a5⟩ := bK_pl177 (fX.s K (fun a h1 h2 => f1 a (by omega) (by omega))) hl hv hw8 h4 f3 f4 _ rfl
      exact ⟨_, a1, I', L', rfl, fX.tr a2, a3, a4, by rw [a5, f2 7 (by decide)]⟩
  obtain ⟨t, a1, I', L', rfl, a2⟩ := this
  exact ⟨I', L', a1, a2⟩
theorem J_plan (J : jK q I L A T sM) (v w : Int32) : jO q I L T sM (fX0_plan 64 v w) (fX3_plan 136 v w) := by
  obtain ⟨K, B, V⟩ := id J
  obtain ⟨M, RM, hTM, hsM, W, h24⟩ := id K
  have X := B.1
  have w2 := W.1.2.2.1
  have m0 := fun (U : iF) (KU : mK q U A T sM) (N : lF_) => kE_isLandB (L := N) KU
  cases c0 : isL A
  · have hn : ph_R q 64 2 = none := by
      rcases B.2.2.2.2.2.2 with ⟨h1, h2, h3⟩ | ⟨h1, h2⟩
      · have := of_decide_eq_false c0; omega
      · exact h1
    have m0 := m0 I K L
    exact jO_same J (r := -(nI 1)) (by simp (disch := omega) only [fX0_plan, nL, nI_add, nJ_mul, nJ_div, nJ_mod, nI_leI, nI_ltI, nI_eq, Option.bind_some, Option.bind_none, Nat.one_ne_zero, Nat.zero_ne_one, Nat.zero_add, Nat.add_zero, if_true, if_false, not_true_eq_false, not_false_eq_true, gx2n X hn, nq_0]) (by simp (disch := omega) only [fX3_plan, nL, nI_add, nJ_mul, nJ_div, nJ_mod, nI_leI, nI_ltI, nI_eq, Option.bind_some, Option.bind_none, Nat.one_ne_zero, Nat.zero_ne_one, Nat.zero_add, Nat.add_zero, if_true, if_false, not_true_eq_false, not_false_eq_true, dm M, m0, c0, Bool.false_eq_true])
  · have h0 : 0 < lA A 1 0 := of_decide_eq_true c0
    obtain ⟨KB, hl⟩ := B.K h0
    obtain ⟨-, G, R, -, -, -, -, -⟩ := id KB
    have x1 := fun g => xin_lit (v := v) (lo := 0) (hi := 1) (l := 0) (k := 1) (by decide +kernel) (by decide +kernel) g
    have m1 := fun g => in_lit (v := v) (lo := 0) (hi := 1) (l := 0) (k := 1) (by decide +kernel) (by decide +kernel) g
    have x2 := fun g => xin_lit (v := w) (lo := 0) (hi := 8) (l := 0) (k := 8) (by decide +kernel) (by decide +kernel) g
    have m2 := fun g => in_lit (v := w) (lo := 0) (hi := 8) (l := 0) (k := 8) (by decide +kernel) (by decide +kernel) g
    have m00 := m0 I K L
    cases c1 : inR v 0 1
    · exact jO_same J (r := -(nI 1)) (by simp (disch := omega) only [fX0_plan, nL, nI_add, nJ_mul, nJ_div, nJ_mod, nI_leI, nI_ltI, nI_eq, Option.bind_some, Option.bind_none, Nat.one_ne_zero, Nat.zero_ne_one, Nat.zero_add, Nat.add_zero, if_true, if_false, not_true_eq_false, not_false_eq_true, gx2 X hl, nq_66, x1, c1, Bool.false_eq_true]) (by simp (disch := omega) only [fX3_plan, nL, nI_add, nJ_mul, nJ_div, nJ_mod, nI_leI, nI_ltI, nI_eq, Option.bind_some, Option.bind_none, Nat.one_ne_zero, Nat.zero_ne_one, Nat.zero_add, Nat.add_zero, if_true, if_false, not_true_eq_false, not_false_eq_true, dm M, m00, c0, m1, c1, Bool.false_eq_true])
    · cases c2 : inR w 0 8
      · exact jO_same J (r := -(nI 1)) (by simp (disch := omega) only [fX0_plan, nL, nI_add, nJ_mul, nJ_div, nJ_mod, nI_leI, nI_ltI, nI_eq, Option.bind_some, Option.bind_none, Nat.one_ne_zero, Nat.zero_ne_one, Nat.zero_add, Nat.add_zero, if_true, if_false, not_true_eq_false, not_false_eq_true, gx2 X hl, nq_66, x1, c1, x2, c2, Bool.false_eq_true]) (by simp (disch := omega) only [fX3_plan, nL, nI_add, nJ_mul, nJ_div, nJ_mod, nI_leI, nI_ltI, nI_eq, Option.bind_some, Option.bind_none, Nat.one_ne_zero, Nat.zero_ne_one, Nat.zero_add, Nat.add_zero, if_true, if_false, not_true_eq_false, not_false_eq_true, dm M, m00, c0, m1, c1, m2, c2, Bool.false_eq_true])
      · obtain ⟨v, -, hv, rfl⟩ := inR_of c1 (by omega)
        obtain ⟨w, -, hw8, rfl⟩ := inR_of c2 (by omega)
        have gle := gP_le (A := A) (v := v) (lA A 1 2)
        -- the count
        have e36 : fX0_plan_L36 64 (nI v) (nI w) (nI 0) (nI 0) (hw q I L) = whl (fun s => fX0_plan_L36_b 64 (nI v) (nI w) s.1 s.2.1 s.2.2) (nI (gP A v (lA A 1 2)).1, nI (lA A 1 2), hw q I L) := by
          unfold fX0_plan_L36
          refine whl_to (f := fun s : Int32 × Int32 × ph_t => fX0_plan_L36_b 64 (nI v) (nI w) s.1 s.2.1 s.2.2) (fun p => (nI (gP A v p).1, nI p, hw q I L)) (lA A 1 2) (fun p hp => ?_)
          have wp := W.2.1 p hp
          by_cases d1 : lA A 2 p = v
          · by_cases d2 : lA A 6 p = 0
            · rw [gP_1 ⟨d1, d2⟩]
              simp (disch := omega) only [fX0_plan_L36_b, fX0_plan_L80, fX0_plan_L81, nm_, nL, nI_add, nJ_mul, nJ_div, nJ_mod, nI_leI, nI_ltI, nI_eq, Option.bind_some, Option.bind_none, Nat.one_ne_zero, Nat.zero_ne_one, Nat.zero_add, Nat.add_zero, if_true, if_false, not_true_eq_false, not_false_eq_true, gx2 X hl, gl_I G, R.f2, show ¬ lA A 1 2 ≤ p by omega, gl9 G, xl9 G, rl1 R, d1, gl13 G, xl13 G, rl5 R, d2]
            · rw [gP_0 (fun z => d2 z.2)]
              simp (disch := omega) only [fX0_plan_L36_b, fX0_plan_L80, fX0_plan_L81, nm_, nL, nI_add, nJ_mul, nJ_div, nJ_mod, nI_leI, nI_ltI, nI_eq, Option.bind_some, Option.bind_none, Nat.one_ne_zero, Nat.zero_ne_one, Nat.zero_add, Nat.add_zero, if_true, if_false, not_true_eq_false, not_false_eq_true, gx2 X hl, gl_I G, R.f2, show ¬ lA A 1 2 ≤ p by omega, gl9 G, xl9 G, rl1 R, d1, gl13 G, xl13 G, rl5 R, d2]
          · rw [gP_0 (fun z => d1 z.1)]
            simp (disch := omega) only [fX0_plan_L36_b, fX0_plan_L80, fX0_plan_L81, nm_, nL, nI_add, nJ_mul, nJ_div, nJ_mod, nI_leI, nI_ltI, nI_eq, Option.bind_some, Option.bind_none, Nat.one_ne_zero, Nat.zero_ne_one, Nat.zero_add, Nat.add_zero, if_true, if_false, not_true_eq_false, not_false_eq_true, gx2 X hl, gl_I G, R.f2, show ¬ lA A 1 2 ≤ p by omega, gl9 G, xl9 G, rl1 R, d1]
        by_cases c4 : (gP A v (lA A 1 2)).1 ≤ 4
        · have f1 : frX I (ph_u I 64 18 (nI 0)) := frX.rf.up (by omega)
          obtain ⟨I3, L3, a1, a2, a3, a4, a5⟩ := bK_pl105 (f1.s KB (fun a h1 h2 => by rw [pu_ne (by omega)])) hl hv hw8 c4 (by rw [pu_eq])
          have fX := f1.tr a2
          have K3 := K.X fX
          obtain ⟨J1, b1, b2, b3, b4, b5⟩ := kE_laysThere (L := L3) K3 hv
          have KJ : mK q J1 A T sM := K3.keep (fun a ha => b2 a (by omega) (by omega)) (b3 59 (by decide)) (b3 32 (by decide))
          have fT : frT I3 J1 := ⟨fun a ha => b2 a (by omega) (by omega), fun j _ => by rw [b2 188 (by decide) (by decide)], fun j hj => b3 j (by omega)⟩
          obtain ⟨J2, d1, d2, d3, d4, d5, d6, d7⟩ := kE_findsPlan (L := L3) KJ c4 (gP_lt (lA A 1 2)) b4 b5
          have hbd := pl_bd (A := A) (T := T) (sM := sM) (gs := (gP A v (lA A 1 2)).2) (gm := (gP A v (lA A 1 2)).1) (gP A v (lA A 1 2)).1 0 (fun _ => 0) (lH A 6) (0, fun _ => 0) (fun k hk => absurd hk (Nat.not_lt_zero k)) (fun k hk => absurd hk (Nat.not_lt_zero k))
          have hlt := gP_lt (A := A) (v := v) (lA A 1 2)
          have m03 := m0 I3 K3 L3
          refine jO_mk (I1 := I3) (L1 := L3) (r := plR A T sM v w) ?_ fX a3 (a4.toL hl h0 (by rw [a5, pu_nk (by decide)]; exact B.2.2.2.1)) V ⟨J2, L3, ?_, fT.tr d2, frTL.rf, d3⟩
          · have e36' : fX0_plan_L36 64 (nI v) (nI w) (nI 0) (nI 0) (hw q I L) = some (plR A T sM v w, hw q I3 L3) := by
              rw [e36]
              refine whl_end ?_
              simp (disch := omega) only [fX0_plan_L36_b, nL, nI_add, nJ_mul, nJ_div, nJ_mod, nI_leI, nI_ltI, nI_eq, Option.bind_some, Option.bind_none, Nat.one_ne_zero, Nat.zero_ne_one, Nat.zero_add, Nat.add_zero, if_true, if_false, not_true_eq_false, not_false_eq_true, gx2 X hl, gl_I G, R.f2, Nat.le_refl, c4, sx_I X, a1, xr_s]
            simp (disch := omega) only [fX0_plan, nL, nI_add, nJ_mul, nJ_div, nJ_mod, nI_leI, nI_ltI, nI_eq, Option.bind_some, Option.bind_none, Nat.one_ne_zero, Nat.zero_ne_one, Nat.zero_add, Nat.add_zero, if_true, if_false, not_true_eq_false, not_false_eq_true, gx2 X hl, nq_66, x1, c1, x2, c2, e36']
          · unfold plR plF
            generalize pl A T sM (gP A v (lA A 1 2)).2 (gP A v (lA A 1 2)).1 (gP A v (lA A 1 2)).1 0 (fun _ => 0) (lH A 6) (0, fun _ => 0) = b at d5 d6 d7 hbd
            generalize gP A v (lA A 1 2) = z at c4 b4 b5 d4 d7 hbd hlt gle
            obtain ⟨gm, gs⟩ := z
            dsimp only at c4 b4 b5 d4 d7 hbd hlt gle ⊢
            by_cases c0' : w = 0
            · subst c0'
              simp (disch := omega) only [fX3_plan, fX3_plan_L69, nm_, nL, nI_add, nJ_mul, nJ_div, nJ_mod, nI_leI, nI_ltI, nI_eq, Option.bind_some, Option.bind_none, Nat.one_ne_zero, Nat.zero_ne_one, Nat.zero_add, Nat.add_zero, if_true, if_false, not_true_eq_false, not_false_eq_true, dm M, m03, c0, m1, c1, m2, c2, b1, gm_I M, b4, c4, d1, d5]
            · by_cases c5 : 2 * b.1 < w
              · simp (disch := omega) only [fX3_plan, fX3_plan_L69, nm_, nL, nI_add, nJ_mul, nJ_div, nJ_mod, nI_leI, nI_ltI, nI_eq, Option.bind_some, Option.bind_none, Nat.one_ne_zero, Nat.zero_ne_one, Nat.zero_add, Nat.add_zero, if_true, if_false, not_true_eq_false, not_false_eq_true, nJ_sub, dm M, m03, c0, m1, c1, m2, c2, b1, gm_I M, b4, c4, d1, d5, c0', c5, show ¬ (w - 1) / 2 < b.1 by omega]
              · have hk : (w - 1) / 2 < b.1 := by omega
                have y4 := d6 ((w - 1) / 2) hk
                have yb := hbd ((w - 1) / 2) hk
                have yl := d4 (b.2 ((w - 1) / 2) / 8) (by omega)
                by_cases c6 : w % 2 = 1
                · simp (disch := omega) only [fX3_plan, fX3_plan_L69, nm_, nL, nI_add, nJ_mul, nJ_div, nJ_mod, nI_leI, nI_ltI, nI_eq, Option.bind_some, Option.bind_none, Nat.one_ne_zero, Nat.zero_ne_one, Nat.zero_add, Nat.add_zero, if_true, if_false, not_true_eq_false, not_false_eq_true, nJ_sub, dm M, m03, c0, m1, c1, m2, c2, b1, gm_I M, b4, c4, d1, d5, c0', c5, hk, c6, gm63 M, gm65 M, xm184 M, y4, xm182 M, yl]
                · simp (disch := omega) only [fX3_plan, fX3_plan_L69, nm_, nL, nI_add, nJ_mul, nJ_div, nJ_mod, nI_leI, nI_ltI, nI_eq, Option.bind_some, Option.bind_none, Nat.one_ne_zero, Nat.zero_ne_one, Nat.zero_add, Nat.add_zero, if_true, if_false, not_true_eq_false, not_false_eq_true, nJ_sub, dm M, m03, c0, m1, c1, m2, c2, b1, gm_I M, b4, c4, d1, d5, c0', c5, hk, c6, gm63 M, gm65 M, xm184 M, y4, xm182 M, yl]
        · obtain ⟨J1, b1, b2, b3, b4, b5⟩ := kE_laysThere (L := L) K hv
          have KJ : mK q J1 A T sM := K.keep (fun a ha => b2 a (by omega) (by omega)) (b3 59 (by decide)) (b3 32 (by decide))
          have fT : frT I J1 := ⟨fun a ha => b2 a (by omega) (by omega), fun j _ => by rw [b2 188 (by decide) (by decide)], fun j hj => b3 j (by omega)⟩
          refine jO_mk (I1 := I) (L1 := L) (r := -(nI 3)) ?_ frX.rf frXL.rf B V ⟨J1, L, ?_, fT, frTL.rf, KJ⟩
          · have e36' : fX0_plan_L36 64 (nI v) (nI w) (nI 0) (nI 0) (hw q I L) = some (-(nI 3), hw q I L) := by
              rw [e36]
              refine whl_end ?_
              simp (disch := omega) only [fX0_plan_L36_b, nL, nI_add, nJ_mul, nJ_div, nJ_mod, nI_leI, nI_ltI, nI_eq, Option.bind_some, Option.bind_none, Nat.one_ne_zero, Nat.zero_ne_one, Nat.zero_add, Nat.add_zero, if_true, if_false, not_true_eq_false, not_false_eq_true, gx2 X hl, gl_I G, R.f2, Nat.le_refl, c4, xr_s]
            simp (disch := omega) only [fX0_plan, nL, nI_add, nJ_mul, nJ_div, nJ_mod, nI_leI, nI_ltI, nI_eq, Option.bind_some, Option.bind_none, Nat.one_ne_zero, Nat.zero_ne_one, Nat.zero_add, Nat.add_zero, if_true, if_false, not_true_eq_false, not_false_eq_true, gx2 X hl, nq_66, x1, c1, x2, c2, e36']
          · simp (disch := omega) only [fX3_plan, nL, nI_add, nJ_mul, nJ_div, nJ_mod, nI_leI, nI_ltI, nI_eq, Option.bind_some, Option.bind_none, Nat.one_ne_zero, Nat.zero_ne_one, Nat.zero_add, Nat.add_zero, if_true, if_false, not_true_eq_false, not_false_eq_true, dm M, m00, c0, m1, c1, m2, c2, b1, gm_I M, b4, c4]
end JN5
