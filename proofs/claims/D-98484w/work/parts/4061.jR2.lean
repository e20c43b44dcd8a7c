/-! P2 JR2: both answer: run -/
section JR2
variable {q : ph_t} {I : iF} {L : lF_} {A : ld_t} {T : Nat → Nat → Bool} {sM : Nat} {F : (Nat → Int64) → Int64}
theorem mRq.fr {r : Nat} {I' : iF} (h : mRq q I r F) (f : frL I I') : mRq q I' r F := fun J N hJ => h J N (fun a h1 h2 => (hJ a h1 h2).trans (f a (by omega)))
theorem kE_run63 (K : mK q I A T sM) (hF : fOK F) {r : Nat} (hR : mRq q I r F) (hd : lA A 1 6 < 20000) (x k : Nat) (v2 : Int32) : ∃ I' L', fX3_run_L63 136 (nI r) v2 (nI x) (nI k) (nI 0) (hw q I L) = some (.inl (nI (x + (rbD T F sM A).2), nI (k + 1), hw q I' L')) ∧ frL I I' ∧ frTL L L' ∧ mK q I' (rbD T F sM A).1 T sM := by
  have w2 := K.2.2.2.2.1.1.2.2.1
  have : ∃ t, fX3_run_L63 136 (nI r) v2 (nI x) (nI k) (nI 0) (hw q I L) = some t ∧ ∃ I' L', t = .inl (nI (x + (rbD T F sM A).2), nI (k + 1), hw q I' L') ∧ frL I I' ∧ frTL L L' ∧ mK q I' (rbD T F sM A).1 T sM := by
    unfold fX3_run_L63
    refine whl_st (α := iF × lF_) (fun p V => (nI (x + (rbP T F sM A p).2), nI p, hw q V.1 V.2)) (fun p V => frL I V.1 ∧ frTL L V.2 ∧ mK q V.1 (rbP T F sM A p).1 T sM) (lA A 1 2) (a := (I, L)) rfl ⟨frL.rf, frTL.rf, K⟩ ?_ ?_
    · rintro p ⟨V, N⟩ hp ⟨f1, f2, f3⟩
      dsimp only at f1 f2 f3 ⊢
      have e12 : lA (rbP T F sM A p).1 1 2 = lA A 1 2 := rbP_st (Or.inr rfl) p
      rw [show rbP T F sM A (p + 1) = rbB T F sM p (rbP T F sM A p) from rfl]
      generalize rbP T F sM A p = z at f3 e12
      obtain ⟨M, R, hT, hsM, W, h24⟩ := id f3
      have hp' : p < lA z.1 1 2 := by omega
      have wp := (W.2.1 p hp').2.2.2.2.2
      by_cases c : lA z.1 6 p = 0
      · obtain ⟨N1, a1, a2⟩ := kE_sayingBy (L := N) f3 hF (hR.fr f1) hp'
        have lt := sbF_lt (A := z.1) (T := T) (F := F) (p := p) sM
        cases e : (sbF z.1 T F p sM).1 with
        | none =>
          rw [rbB_n c e]
          rw [e] at a1
          refine ⟨(V, N1), ?_, f1, f2.tr a2, f3⟩
          simp (disch := omega) only [fX3_run_L63_b, fX3_run_L95, fX3_run_L123, nL, nI_add, nJ_mul, nJ_div, nJ_mod, nI_leI, nI_ltI, nI_eq, Option.bind_some, Option.bind_none, Nat.one_ne_zero, Nat.zero_ne_one, Nat.zero_add, Nat.add_zero, if_true, if_false, not_true_eq_false, not_false_eq_true, gm1 M, xm137 M, rm1 R, e12, show ¬ lA A 1 2 ≤ p by omega, gm6 M, xm142 M, rm6 R, c, dm M, a1, noE, Option.elim]
        | some s =>
          rw [rbB_s c e]
          rw [e] at a1
          have hs := lt s e
          obtain ⟨V1, b1, b2, b3⟩ := kE_crosses (L := N1) f3 hp' hs
          have hc := cr_le (A := z.1) (T := T) (p := p) (s := s)
          have en := nI_m1 (p := s) (by have := f3.2.2.2.2.2; omega)
          refine ⟨(V1, N1), ?_, f1.tr b2, f2.tr a2, b3⟩
          generalize (a_cr z.1 T p s).1 = y at b1 hc
          by_cases d : y = 3
          · subst d
            simp (disch := omega) only [fX3_run_L63_b, fX3_run_L95, fX3_run_L123, fX3_run_L121, nm_, nL, nI_add, nJ_mul, nJ_div, nJ_mod, nI_leI, nI_ltI, nI_eq, Option.bind_some, Option.bind_none, Nat.one_ne_zero, Nat.zero_ne_one, Nat.zero_add, Nat.add_zero, if_true, if_false, not_true_eq_false, not_false_eq_true, gm1 M, xm137 M, rm1 R, e12, show ¬ lA A 1 2 ≤ p by omega, gm6 M, xm142 M, rm6 R, c, dm M, a1, noE, Option.elim, en, b1, Nat.add_assoc]
          · simp (disch := omega) only [fX3_run_L63_b, fX3_run_L95, fX3_run_L123, fX3_run_L121, nm_, nL, nI_add, nJ_mul, nJ_div, nJ_mod, nI_leI, nI_ltI, nI_eq, Option.bind_some, Option.bind_none, Nat.one_ne_zero, Nat.zero_ne_one, Nat.zero_add, Nat.add_zero, if_true, if_false, not_true_eq_false, not_false_eq_true, gm1 M, xm137 M, rm1 R, e12, show ¬ lA A 1 2 ≤ p by omega, gm6 M, xm142 M, rm6 R, c, dm M, a1, noE, Option.elim, en, b1, d, Nat.add_assoc]
      · rw [rbB_0 c]
        have en : (-(nI 1) : Int32) = -(nI 1) := rfl
        exact ⟨(V, N), by simp (disch := omega) only [fX3_run_L63_b, fX3_run_L95, fX3_run_L123, nL, nI_add, nJ_mul, nJ_div, nJ_mod, nI_leI, nI_ltI, nI_eq, Option.bind_some, Option.bind_none, Nat.one_ne_zero, Nat.zero_ne_one, Nat.zero_add, Nat.add_zero, if_true, if_false, not_true_eq_false, not_false_eq_true, gm1 M, xm137 M, rm1 R, e12, show ¬ lA A 1 2 ≤ p by omega, gm6 M, xm142 M, rm6 R, c, dm M], f1, f2, f3⟩
    · rintro ⟨V, N⟩ ⟨f1, f2, f3⟩
      dsimp only at f1 f2 f3 ⊢
      have e12 : lA (rbP T F sM A (lA A 1 2)).1 1 2 = lA A 1 2 := rbP_st (Or.inr rfl) _
      have e16 : lA (rbP T F sM A (lA A 1 2)).1 1 6 = lA A 1 6 := rbP_st (Or.inr rfl) _
      obtain ⟨V1, b1, b2, b3⟩ := kE_dayPasses (L := N) f3 (by rw [e16]; exact hd)
      have M := f3.1
      have r2 : V 137 2 = nI (lA (rbP T F sM A (lA A 1 2)).1 1 2) := rm1 f3.2.1 (by decide)
      exact ⟨_, by simp (disch := omega) only [fX3_run_L63_b, nL, nI_add, nJ_mul, nJ_div, nJ_mod, nI_leI, nI_ltI, nI_eq, Option.bind_some, Option.bind_none, Nat.one_ne_zero, Nat.zero_ne_one, Nat.zero_add, Nat.add_zero, if_true, if_false, not_true_eq_false, not_false_eq_true, gm1 M, xm137 M, r2, e12, Nat.le_refl, dm M, b1, xr_s] <;> rfl, V1, N, rfl, f1.tr b2, f2, b3⟩
  obtain ⟨t, a1, I', L', rfl, a2⟩ := this
  exact ⟨I', L', a1, a2⟩
theorem kE_run54 (K : mK q I A T sM) (hF : fOK F) {r : Nat} (hR : mRq q I r F) {n : Nat} (hn : n ≤ 60) (hd : lA A 1 6 ≤ 9999) : ∃ I' L', fX3_run_L54 136 (nI r) (nI n) (nI 0) (nI 0) (hw q I L) = some (nI (rbN T F sM A n).2, hw q I' L') ∧ frL I I' ∧ frTL L L' ∧ mK q I' (rbN T F sM A n).1 T sM := by
  have : ∃ t, fX3_run_L54 136 (nI r) (nI n) (nI 0) (nI 0) (hw q I L) = some t ∧ ∃ I' L', t = (nI (rbN T F sM A n).2, hw q I' L') ∧ frL I I' ∧ frTL L L' ∧ mK q I' (rbN T F sM A n).1 T sM := by
    unfold fX3_run_L54
    refine whl_st (α := iF × lF_) (fun k V => (nI (rbN T F sM A k).2, nI k, hw q V.1 V.2)) (fun k V => frL I V.1 ∧ frTL L V.2 ∧ mK q V.1 (rbN T F sM A k).1 T sM) n (a := (I, L)) rfl ⟨frL.rf, frTL.rf, K⟩ ?_ ?_
    · rintro k ⟨V, N⟩ hk ⟨f1, f2, f3⟩
      dsimp only at f1 f2 f3 ⊢
      have e16 : lA (rbN T F sM A k).1 1 6 = lA A 1 6 + k := rbN_6 k
      rw [show rbN T F sM A (k + 1) = ((rbD T F sM (rbN T F sM A k).1).1, (rbN T F sM A k).2 + (rbD T F sM (rbN T F sM A k).1).2) from rfl]
      generalize rbN T F sM A k = z at f3 e16
      obtain ⟨I', L', a1, a2, a3, a4⟩ := kE_run63 (L := N) f3 hF (hR.fr f1) (by omega) z.2 k (nI n)
      exact ⟨(I', L'), by simp (disch := omega) only [fX3_run_L54_b, nL, nI_add, nJ_mul, nJ_div, nJ_mod, nI_leI, nI_ltI, nI_eq, Option.bind_some, Option.bind_none, Nat.one_ne_zero, Nat.zero_ne_one, Nat.zero_add, Nat.add_zero, if_true, if_false, not_true_eq_false, not_false_eq_true, show ¬ n ≤ k by omega, a1], f1.tr a2, f2.tr a3, a4⟩
    · rintro ⟨V, N⟩ ⟨f1, f2, f3⟩
      exact ⟨_, by simp (disch := omega) only [fX3_run_L54_b, nL, nI_add, nJ_mul, nJ_div, nJ_mod, nI_leI, nI_ltI, nI_eq, Option.bind_some, Option.bind_none, Nat.one_ne_zero, Nat.zero_ne_one, Nat.zero_add, Nat.add_zero, if_true, if_false, not_true_eq_false, not_false_eq_true, Nat.le_refl, xr_s] <;> rfl, V, N, rfl, f1, f2, f3⟩
  obtain ⟨t, a1, I', L', rfl, a2⟩ := this
  exact ⟨I', L', a1, a2⟩
-- TruthBridge's
def frWL (L L' : lF_) : Prop := ∀ a, (a < 66 ∨ 79 < a) → a ≠ 128 → L' a = L a
theorem frWL.rf {L : lF_} : frWL L L := fun _ _ _ => rfl
theorem frWL.tr {L L' L'' : lF_} (h : frWL L L') (h' : frWL L' L'') : frWL L L'' := fun a h1 h2 => (h' a h1 h2).trans (h a h1 h2)
theorem bRq.fr {o : Nat} {I' : iF} {L' : lF_} (h : bRq q I L o F) (f : frG 66 I I') (g : frWL L L') : bRq q I' L' o F := ⟨h.1, fun J N hJ => h.2 J N (fun a ha h6 h19 => ⟨(hJ a ha h6 h19).1.trans (f a (by omega)), (hJ a ha h6 h19).2.trans (g a (by omega) (by omega))⟩)⟩
theorem bK_dayBy (K : bK q 66 I L A T sM) (hl : ph_R q 64 2 = some 66) (hF : fOK F) {o : Nat} (hR : bRq q I L o F) (hd : lA A 1 6 < 20000) : ∃ I' L', fX0_dayBy 64 (some o) (hw q I L) = some (nI (rbD T F sM A).2, hw q I' L') ∧ frG 66 I I' ∧ frWL L L' ∧ bK q 66 I' L' (rbD T F sM A).1 T sM := by
  have w2 := K.2.2.2.2.2.1.1.2.2.1
  have : ∃ t, fX0_dayBy 64 (some o) (hw q I L) = some t ∧ ∃ I' L', t = (nI (rbD T F sM A).2, hw q I' L') ∧ frG 66 I I' ∧ frWL L L' ∧ bK q 66 I' L' (rbD T F sM A).1 T sM := by
    unfold fX0_dayBy fX0_dayBy_L4
    refine whl_st (α := iF × lF_) (fun p V => (nI (rbP T F sM A p).2, nI p, hw q V.1 V.2)) (fun p V => frG 66 I V.1 ∧ frWL L V.2 ∧ bK q 66 V.1 V.2 (rbP T F sM A p).1 T sM) (lA A 1 2) (a := (I, L)) rfl ⟨frG.rf, frWL.rf, K⟩ ?_ ?_
    · rintro p ⟨V, N⟩ hp ⟨f1, f2, f3⟩
      dsimp only at f1 f2 f3 ⊢
      have e12 : lA (rbP T F sM A p).1 1 2 = lA A 1 2 := rbP_st (Or.inr rfl) p
      rw [show rbP T F sM A (p + 1) = rbB T F sM p (rbP T F sM A p) from rfl]
      generalize rbP T F sM A p = z at f3 e12
      obtain ⟨X, G, R, hT, hsM, W, h24, hg⟩ := id f3
      have hp' : p < lA z.1 1 2 := by omega
      have wp := (W.2.1 p hp').2.2.2.2.2
      by_cases c : lA z.1 6 p = 0
      · obtain ⟨N1, a1, a2⟩ := bK_sayingBy (L := N) f3 hl hF (hR.fr f1 f2) hp'
        have lt := sbF_lt (A := z.1) (T := T) (F := F) (p := p) sM
        have K1 : bK q 66 V N1 z.1 T sM := ⟨X, G, glR_keep W R (fun _ _ _ => rfl) (fun a h1 h2 => a2 a (by omega)), by rw [a2 65 (by decide)]; exact hT, hsM, W, h24, hg⟩
        have fw : frWL N N1 := fun a _ h => a2 a h
        cases e : (sbF z.1 T F p sM).1 with
        | none =>
          rw [rbB_n c e]
          rw [e] at a1
          refine ⟨(V, N1), ?_, f1, f2.tr fw, K1⟩
          simp (disch := omega) only [fX0_dayBy_L4_b, fX0_dayBy_L38, fX0_dayBy_L64, nL, nI_add, nJ_mul, nJ_div, nJ_mod, nI_leI, nI_ltI, nI_eq, Option.bind_some, Option.bind_none, Nat.one_ne_zero, Nat.zero_ne_one, Nat.zero_add, Nat.add_zero, if_true, if_false, not_true_eq_false, not_false_eq_true, gx2 X hl, gl_I G, R.f2, e12, show ¬ lA A 1 2 ≤ p by omega, gl13 G, xl13 G, rl5 R, c, dx X, a1, noE, Option.elim]
        | some s =>
          rw [rbB_s c e]
          rw [e] at a1
          have hs := lt s e
          obtain ⟨V1, N2, b1, b2, b3, b4⟩ := bK_crosses (L := N1) K1 hp' hs
          have hc := cr_le (A := z.1) (T := T) (p := p) (s := s)
          have en := nI_m1 (p := s) (by omega)
          refine ⟨(V1, N2), ?_, f1.tr b2, (f2.tr fw).tr (fun a h1 _ => b3 a (by omega)), b4⟩
          generalize (a_cr z.1 T p s).1 = y at b1 hc
          by_cases d : y = 3
          · subst d
            simp (disch := omega) only [fX0_dayBy_L4_b, fX0_dayBy_L38, fX0_dayBy_L64, nL, nI_add, nJ_mul, nJ_div, nJ_mod, nI_leI, nI_ltI, nI_eq, Option.bind_some, Option.bind_none, Nat.one_ne_zero, Nat.zero_ne_one, Nat.zero_add, Nat.add_zero, if_true, if_false, not_true_eq_false, not_false_eq_true, gx2 X hl, gl_I G, R.f2, e12, show ¬ lA A 1 2 ≤ p by omega, gl13 G, xl13 G, rl5 R, c, dx X, a1, noE, Option.elim, en, b1]
          · simp (disch := omega) only [fX0_dayBy_L4_b, fX0_dayBy_L38, fX0_dayBy_L64, nL, nI_add, nJ_mul, nJ_div, nJ_mod, nI_leI, nI_ltI, nI_eq, Option.bind_some, Option.bind_none, Nat.one_ne_zero, Nat.zero_ne_one, Nat.zero_add, Nat.add_zero, if_true, if_false, not_true_eq_false, not_false_eq_true, gx2 X hl, gl_I G, R.f2, e12, show ¬ lA A 1 2 ≤ p by omega, gl13 G, xl13 G, rl5 R, c, dx X, a1, noE, Option.elim, en, b1, d]
      · rw [rbB_0 c]
        have c1 : lA z.1 6 p = 1 := by omega
        exact ⟨(V, N), by simp (disch := omega) only [fX0_dayBy_L4_b, fX0_dayBy_L38, fX0_dayBy_L64, nL, nI_add, nJ_mul, nJ_div, nJ_mod, nI_leI, nI_ltI, nI_eq, Option.bind_some, Option.bind_none, Nat.one_ne_zero, Nat.zero_ne_one, Nat.zero_add, Nat.add_zero, if_true, if_false, not_true_eq_false, not_false_eq_true, gx2 X hl, gl_I G, R.f2, e12, show ¬ lA A 1 2 ≤ p by omega, gl13 G, xl13 G, rl5 R, c1, dx X], f1, f2, f3⟩
    · rintro ⟨V, N⟩ ⟨f1, f2, f3⟩
      dsimp only at f1 f2 f3 ⊢
      have e12 : lA (rbP T F sM A (lA A 1 2)).1 1 2 = lA A 1 2 := rbP_st (Or.inr rfl) _
      have e16 : lA (rbP T F sM A (lA A 1 2)).1 1 6 = lA A 1 6 := rbP_st (Or.inr rfl) _
      obtain ⟨V1, N1, b1, b2, b3, b4⟩ := bK_dayGoes (L := N) f3 (by rw [e16]; exact hd)
      have X := f3.1
      have G := f3.2.1
      have r2 : V 66 2 = nI (lA (rbP T F sM A (lA A 1 2)).1 1 2) := f3.2.2.1.f2
      exact ⟨_, by simp (disch := omega) only [fX0_dayBy_L4_b, nL, nI_add, nJ_mul, nJ_div, nJ_mod, nI_leI, nI_ltI, nI_eq, Option.bind_some, Option.bind_none, Nat.one_ne_zero, Nat.zero_ne_one, Nat.zero_add, Nat.add_zero, if_true, if_false, not_true_eq_false, not_false_eq_true, gx2 X hl, gl_I G, r2, e12, Nat.le_refl, dl G, b1, xr_s] <;> rfl, V1, N1, rfl, f1.tr b2, f2.tr (fun a h1 _ => b3 a (by omega)), b4⟩
  obtain ⟨t, a1, I', L', rfl, a2⟩ := this
  exact ⟨I', L', a1, a2⟩
theorem bK_run57 (K : bK q 66 I L A T sM) (hl : ph_R q 64 2 = some 66) (hF : fOK F) {r o : Nat} (hr : r < 6) (ho : ph_R q 127 r = some o) (hR : bRq q I L o F) {n : Nat} (hn : n ≤ 60) (hd : lA A 1 6 ≤ 9999) : ∃ I' L', fX0_run_L57 64 (nI r) (nI n) (nI 0) (nI 0) (hw q I L) = some (nI (rbN T F sM A n).2, hw q I' L') ∧ frG 66 I I' ∧ frWL L L' ∧ bK q 66 I' L' (rbN T F sM A n).1 T sM := by
  have X := K.1
  have e14 : ∀ (J : iF) (N : lF_), xR (hw q J N) (some 127) 25 (nI r) = some (some o) := fun J N => by
    have h := nJ_pin (n := r) (N := 6) hr (by decide)
    have hx := X.A (a := 127) (t := 25) (n := 6) (by decide)
    simp only [xR, Option.bind_some]
    rw [if_pos ⟨hx.1, h.1, by rw [show ph_N (hw q J N) 127 = 6 from hx.2]; exact h.2⟩, nI_clamp (by omega)]
    exact congrArg some ho
  have : ∃ t, fX0_run_L57 64 (nI r) (nI n) (nI 0) (nI 0) (hw q I L) = some t ∧ ∃ I' L', t = (nI (rbN T F sM A n).2, hw q I' L') ∧ frG 66 I I' ∧ frWL L L' ∧ bK q 66 I' L' (rbN T F sM A n).1 T sM := by
    unfold fX0_run_L57
    refine whl_st (α := iF × lF_) (fun k V => (nI (rbN T F sM A k).2, nI k, hw q V.1 V.2)) (fun k V => frG 66 I V.1 ∧ frWL L V.2 ∧ bK q 66 V.1 V.2 (rbN T F sM A k).1 T sM) n (a := (I, L)) rfl ⟨frG.rf, frWL.rf, K⟩ ?_ ?_
    · rintro k ⟨V, N⟩ hk ⟨f1, f2, f3⟩
      dsimp only at f1 f2 f3 ⊢
      have e16 : lA (rbN T F sM A k).1 1 6 = lA A 1 6 + k := rbN_6 k
      rw [show rbN T F sM A (k + 1) = ((rbD T F sM (rbN T F sM A k).1).1, (rbN T F sM A k).2 + (rbD T F sM (rbN T F sM A k).1).2) from rfl]
      generalize rbN T F sM A k = z at f3 e16
      obtain ⟨I', L', a1, a2, a3, a4⟩ := bK_dayBy (L := N) f3 hl hF (hR.fr f1 f2) (by omega)
      exact ⟨(I', L'), by simp (disch := omega) only [fX0_run_L57_b, nm_, nL, nI_add, nJ_mul, nJ_div, nJ_mod, nI_leI, nI_ltI, nI_eq, Option.bind_some, Option.bind_none, Nat.one_ne_zero, Nat.zero_ne_one, Nat.zero_add, Nat.add_zero, if_true, if_false, not_true_eq_false, not_false_eq_true, show ¬ n ≤ k by omega, gx14 X, e14, dx X, a1], f1.tr a2, f2.tr a3, a4⟩
    · rintro ⟨V, N⟩ ⟨f1, f2, f3⟩
      exact ⟨_, by simp (disch := omega) only [fX0_run_L57_b, nL, nI_add, nJ_mul, nJ_div, nJ_mod, nI_leI, nI_ltI, nI_eq, Option.bind_some, Option.bind_none, Nat.one_ne_zero, Nat.zero_ne_one, Nat.zero_add, Nat.add_zero, if_true, if_false, not_true_eq_false, not_false_eq_true, Nat.le_refl, xr_s] <;> rfl, V, N, rfl, f1, f2, f3⟩
  obtain ⟨t, a1, I', L', rfl, a2⟩ := this
  exact ⟨I', L', a1, a2⟩
theorem l00_1 {j : Nat} : lA (lSet A 0 0 0) 1 j = lA A 1 j := by rw [lSet_A, if_neg (by omega)]
theorem l00_f {f i : Nat} (h : f ≠ 0) : lA (lSet A 0 0 0) f i = lA A f i := by rw [lSet_A, if_neg (by omega)]
theorem l00_0 : lA (lSet A 0 0 0) 0 0 = 0 := by rw [lSet_A, if_pos ⟨rfl, rfl⟩]
theorem lW_00 (W : lW A) : lW (lSet A 0 0 0) := by
  obtain ⟨⟨w0, w1, w2, w3, w4, w5, w6, w7, w8⟩, ws⟩ := W
  unfold lW
  simp only [l00_1, l00_0, l00_f (show (2 : Nat) ≠ 0 by decide), l00_f (show (3 : Nat) ≠ 0 by decide), l00_f (show (4 : Nat) ≠ 0 by decide), l00_f (show (5 : Nat) ≠ 0 by decide), l00_f (show (6 : Nat) ≠ 0 by decide), l00_f (show (7 : Nat) ≠ 0 by decide), l00_f (show (8 : Nat) ≠ 0 by decide), l00_f (show (9 : Nat) ≠ 0 by decide), l00_f (show (10 : Nat) ≠ 0 by decide), l00_f (show (11 : Nat) ≠ 0 by decide), l00_f (show (12 : Nat) ≠ 0 by decide), lSet_H]
  exact ⟨⟨w0, w1, w2, w3, w4, w5, w6, w7, by omega⟩, ws⟩
theorem mK_00 (K : mK q I A T sM) : mK q (ph_u I 136 59 (nI 0)) (lSet A 0 0 0) T sM := by
  obtain ⟨M, R, hT, hsM, W, h24⟩ := K
  have em : ∀ f i, f ≠ 0 → mlL (ph_u I 136 59 (nI 0)) f i = mlL I f i := fun f i h => by
    unfold mlL
    rw [if_neg h, if_neg h, pu_ne (by omega), pu_ne (by omega)]
  refine ⟨M, ⟨fun f i hi => ?_, fun who hw_ => ?_, fun k hk => ?_⟩, by rw [pu_ne (by decide)]; exact hT, by rw [pu_nk (by decide)]; exact hsM, lW_00 W, h24⟩
  · by_cases c : f = 0
    · subst c
      have : i = 0 := by
        have : i < 1 := hi
        omega
      subst this
      rw [l00_0]
      unfold mlL
      rw [if_pos rfl, pu_eq]
    · rw [em f i c, l00_f c]
      refine R.1 f i ?_
      have : rnF (lSet A 0 0 0) f = rnF A f := by
        unfold rnF
        simp only [l00_1]
      rw [← this]
      exact hi
  · rw [l00_1] at hw_
    rw [show mlL (ph_u I 136 59 (nI 0)) 15 = mlL I 15 from funext fun i => em 15 i (by decide)]
    exact R.2.1 who hw_
  · rw [l00_0] at hk
    exact absurd hk (Nat.not_lt_zero k)
theorem bK_00 (K : bK q 66 I L A T sM) : bK q 66 (ph_u I 66 7 (nI 0)) L (lSet A 0 0 0) T sM := by
  obtain ⟨X, G, R, hT, hsM, W, h24, hg⟩ := K
  obtain ⟨⟨r0, r1, r2, r3, r4, r5, r6, r7, r8⟩, rp, rk, rf, rt, rr, rh, -⟩ := R
  refine ⟨X, G, ?_, hT, by rw [pu_ne (by decide)]; exact hsM, lW_00 W, h24, hg⟩
  unfold glR
  rw [a_far_eq (A := A) (A' := lSet A 0 0 0) l00_1 (fun f k h1 h2 => l00_f (by omega))]
  simp only [l00_1, l00_0, l00_f (show (2 : Nat) ≠ 0 by decide), l00_f (show (3 : Nat) ≠ 0 by decide), l00_f (show (4 : Nat) ≠ 0 by decide), l00_f (show (5 : Nat) ≠ 0 by decide), l00_f (show (6 : Nat) ≠ 0 by decide), l00_f (show (7 : Nat) ≠ 0 by decide), l00_f (show (11 : Nat) ≠ 0 by decide), l00_f (show (12 : Nat) ≠ 0 by decide), l00_f (show (13 : Nat) ≠ 0 by decide), l00_f (show (14 : Nat) ≠ 0 by decide), lSet_H, pu_ne (show (66 : Nat) + 1 ≠ 66 by decide), pu_ne (show (66 : Nat) + 2 ≠ 66 by decide), pu_ne (show (66 : Nat) + 3 ≠ 66 by decide), pu_ne (show (66 : Nat) + 4 ≠ 66 by decide), pu_ne (show (66 : Nat) + 5 ≠ 66 by decide), pu_ne (show (66 : Nat) + 6 ≠ 66 by decide), pu_ne (show (66 : Nat) + 7 ≠ 66 by decide), pu_ne (show (66 : Nat) + 8 ≠ 66 by decide), pu_ne (show (66 : Nat) + 9 ≠ 66 by decide), pu_ne (show (66 : Nat) + 10 ≠ 66 by decide)]
  exact ⟨⟨by rw [pu_nk (by decide)]; exact r0, by rw [pu_nk (by decide)]; exact r1, by rw [pu_nk (by decide)]; exact r2, by rw [pu_nk (by decide)]; exact r3, by rw [pu_nk (by decide)]; exact r4, by rw [pu_nk (by decide)]; exact r5, by rw [pu_nk (by decide)]; exact r6, pu_eq, by rw [pu_nk (by decide)]; exact r8⟩, rp, rk, rf, rt, rr, rh, fun k hk => absurd hk (Nat.not_lt_zero k)⟩
end JR2
