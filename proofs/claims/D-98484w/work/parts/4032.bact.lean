/-! P2 BACT: TruthBridge: one tells the bridge something -/
section BAC
variable {q : ph_t} {I : iF} {L : lF_} {A : ld_t} {T : Nat → Nat → Bool} {sM g : Nat}
theorem glR_fell (R : glR I L g A) {p v : Nat} : glR (ph_u I (g + 5) p (nI v)) L g (lSet A 6 p v) := by
  refine glR_SD (glS_cong R.S (fun j _ _ => by rw [pu_ne (by omega)]) (fun a ha => by rw [pu_ne (by omega)]) rfl (fun f i h => by rw [lSet_A, if_neg (fun z => h.2.2.1 z.1)]) rfl) ⟨?_, ?_, fun k hk => ?_, R.D.2.2.2⟩
  · rw [pu_ne (by omega)]; exact R.f1
  · rw [pu_ne (by omega)]; exact R.f6
  · have hk : k < lA A 1 2 := by simpa [lSet_A] using hk
    rw [pu_ne (show g + 1 ≠ g + 5 by omega), pu_ne (show g + 4 ≠ g + 5 by omega), pu_at, lSet_A, if_neg (by omega), lSet_A, if_neg (by omega), lSet_A]
    refine ⟨R.p1 hk, R.p4 hk, ?_⟩
    by_cases c : k = p
    · rw [if_pos c, if_pos ⟨rfl, c⟩]
    · rw [if_neg c, if_neg (fun z => c z.2)]; exact R.p5 hk
theorem glR_side (R : glR I L g A) {p v : Nat} : glR (ph_u I (g + 1) p (nI v)) L g (lSet A 2 p v) := by
  refine glR_SD (glS_cong R.S (fun j _ _ => by rw [pu_ne (by omega)]) (fun a ha => by rw [pu_ne (by omega)]) rfl (fun f i h => by rw [lSet_A, if_neg (fun z => h.1 z.1)]) rfl) ⟨?_, ?_, fun k hk => ?_, R.D.2.2.2⟩
  · rw [pu_ne (by omega)]; exact R.f1
  · rw [pu_ne (by omega)]; exact R.f6
  · have hk : k < lA A 1 2 := by simpa [lSet_A] using hk
    rw [pu_ne (show g + 5 ≠ g + 1 by omega), pu_ne (show g + 4 ≠ g + 1 by omega), pu_at, lSet_A, lSet_A, if_neg (show ¬ (5 = 2 ∧ k = p) by omega), lSet_A, if_neg (show ¬ (6 = 2 ∧ k = p) by omega)]
    refine ⟨?_, R.p4 hk, R.p5 hk⟩
    by_cases c : k = p
    · rw [if_pos c, if_pos ⟨rfl, c⟩]
    · rw [if_neg c, if_neg (fun z => c z.2)]; exact R.p1 hk
theorem bK_crosses (K : bK q g I L A T sM) {p s : Nat} (hp : p < lA A 1 2) (hs : s < sM) : ∃ I' L', fX0_crosses 64 (some g) (nI p) (nI s) (hw q I L) = some (nI (a_cr A T p s).1, hw q I' L') ∧ frG g I I' ∧ frH g L L' ∧ bK q g I' L' (a_cr A T p s).2 T sM := by
  have K0 := K
  obtain ⟨X, G, R, hT, hsM, hW, h24, hg66⟩ := K
  have h6 := hW.1.2.2.1
  have hso := hW.1.2.1
  have h8 := p2_8 hW.1.1
  obtain ⟨w1, w2, w3, w4, w5, w6⟩ := hW.2.1 p hp
  have hg := gn_le (H := lH A 6) (B := T s)
  have e2 := bE_isKnown (L := L) X G R hT hW (who := 6) (Or.inr rfl) hs h24
  have e3 := bE_isSo (I := I) (L := L) X hT hs (w := lA A 1 1) (by omega) h24
  have e4 := bE_gainOf (L := L) X G R hT hW hs h24
  obtain ⟨L1, e5, h1, K1⟩ := bK_isTold (L := L) K0 (who := 6) (Or.inr rfl) hs
  have e3' := bE_isSo (I := ph_u I (g + 5) p (nI 1)) (L := L) X (sM := sM) (T := T) hT hs (w := lA A 1 1) (by omega) h24
  have R6 : glR (ph_u I (g + 5) p (nI 1)) L g (lSet A 6 p 1) := glR_fell R
  cases c3 : T s (lA A 1 1)
  · have ea : a_cr A T p s = (0, lSet A 6 p 1) := by unfold a_cr; rw [if_pos c3]
    rw [ea]
    refine ⟨ph_u I (g + 5) p (nI 1), L, ?_, frG.rf.up (by omega), frH.rf, K0.next (frG.rf.up (by omega)) frH.rf R6 (lW_set6 hW (by omega))⟩
    cases c4 : kn_ (lH A 6) (T s)
    · simp (disch := omega) only [fX0_crosses, fX0_crosses_L16, fX0_crosses_L35, nL, nI_add, nJ_mul, nJ_div, nJ_mod, nI_leI, nI_ltI, nI_eq, Option.bind_some, Option.bind_none, Nat.one_ne_zero, Nat.zero_ne_one, Nat.zero_add, Nat.add_zero, if_true, if_false, not_true_eq_false, not_false_eq_true, dx X, e2, c4, gg_I G, R.f1, e3, e3', c3, gg13 G, yg13 G, pu_ne, Bool.false_eq_true]
    · simp (disch := omega) only [fX0_crosses, fX0_crosses_L16, fX0_crosses_L35, nL, nI_add, nJ_mul, nJ_div, nJ_mod, nI_leI, nI_ltI, nI_eq, Option.bind_some, Option.bind_none, Nat.one_ne_zero, Nat.zero_ne_one, Nat.zero_add, Nat.add_zero, if_true, if_false, not_true_eq_false, not_false_eq_true, dx X, e2, c4, gg_I G, R.f1, e3, e3', c3, gg13 G, yg13 G, pu_ne, Bool.false_eq_true]
  · have n3 : ¬ T s (lA A 1 1) = false := by rw [c3]; decide
    cases c4 : kn_ (lH A 6) (T s)
    · have n4 : ¬ kn_ (lH A 6) (T s) = true := by rw [c4]; decide
      by_cases c5 : lA A 3 p ≤ gn_ (lH A 6) (T s)
      · have ea : a_cr A T p s = (3, lSet (lHs A 6 (fun w => lH A 6 w && T s w)) 2 p (1 - lA A 2 p)) := by unfold a_cr; rw [if_neg n3, if_neg n4, if_pos c5]
        rw [ea]
        refine ⟨ph_u I (g + 1) p (nI (1 - lA A 2 p)), L1, ?_, frG.rf.up (by omega), h1.fr, K1.next (frG.rf.up (by omega)) frH.rf (glR_side K1.2.2.1) (lW_set2 K1.2.2.2.2.2.1 (by omega))⟩
        simp (disch := omega) only [fX0_crosses, fX0_crosses_L16, fX0_crosses_L80, fX0_crosses_L109, nL, nI_add, nJ_mul, nJ_div, nJ_mod, nI_leI, nI_ltI, nI_eq, Option.bind_some, Option.bind_none, Nat.one_ne_zero, Nat.zero_ne_one, Nat.zero_add, Nat.add_zero, if_true, if_false, not_true_eq_false, not_false_eq_true, dx X, e2, c4, gg_I G, R.f1, e3, c3, e4, gg10 G, xg10 G, R.p2 hp, show ¬ gn_ (lH A 6) (T s) < lA A 3 p by omega, e5, gg9 G, xg9 G, yg9 G, R.p1 hp, nJ_sub, Bool.false_eq_true]
      · have ea : a_cr A T p s = (2, lHs A 6 (fun w => lH A 6 w && T s w)) := by unfold a_cr; rw [if_neg n3, if_neg n4, if_neg c5]
        rw [ea]
        refine ⟨I, L1, ?_, frG.rf, h1.fr, K1⟩
        simp (disch := omega) only [fX0_crosses, fX0_crosses_L16, fX0_crosses_L80, fX0_crosses_L109, nL, nI_add, nJ_mul, nJ_div, nJ_mod, nI_leI, nI_ltI, nI_eq, Option.bind_some, Option.bind_none, Nat.one_ne_zero, Nat.zero_ne_one, Nat.zero_add, Nat.add_zero, if_true, if_false, not_true_eq_false, not_false_eq_true, dx X, e2, c4, gg_I G, R.f1, e3, c3, e4, gg10 G, xg10 G, R.p2 hp, show gn_ (lH A 6) (T s) < lA A 3 p by omega, e5, Bool.false_eq_true]
    · have ea : a_cr A T p s = (1, lSet A 6 p 1) := by unfold a_cr; rw [if_neg n3, if_pos c4]
      rw [ea]
      refine ⟨ph_u I (g + 5) p (nI 1), L, ?_, frG.rf.up (by omega), frH.rf, K0.next (frG.rf.up (by omega)) frH.rf R6 (lW_set6 hW (by omega))⟩
      simp (disch := omega) only [fX0_crosses, fX0_crosses_L16, fX0_crosses_L35, nL, nI_add, nJ_mul, nJ_div, nJ_mod, nI_leI, nI_ltI, nI_eq, Option.bind_some, Option.bind_none, Nat.one_ne_zero, Nat.zero_ne_one, Nat.zero_add, Nat.add_zero, if_true, if_false, not_true_eq_false, not_false_eq_true, dx X, e2, c4, gg_I G, R.f1, e3, e3', c3, gg13 G, yg13 G, pu_ne]
end BAC
