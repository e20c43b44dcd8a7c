/-! P2 MKNOW: the model: what facts one knows; forgetting -/
def a_kf (A : ld_t) (who f : Nat) : Bool := allB (fun w => !lH A who w || (w.testBit f == (lA A 1 1).testBit f)) (2 ^ lA A 1 0)
section MKN
variable {q : ph_t} {I : iF} {L : lF_} {A : ld_t} {T : Nat → Nat → Bool} {sM : Nat}
theorem kE_knowsFact (K : mK q I A T sM) {who f : Nat} (hq : who < lA A 1 2 ∨ who = 6) (hf : f < lA A 1 0) : fX3_knowsFact 136 (nI who) (nI f) (hw q I L) = some (nI (if a_kf A who f then 1 else 0), hw q I L) := by
  have K0 := K
  obtain ⟨M, R, hT, hsM, hW, h24⟩ := K
  have hn8 := hW.1.1
  have h8 := p2_8 hW.1.1
  have ew := kE_worlds (L := L) K0
  unfold a_kf
  obtain ⟨N, hN⟩ : ∃ N, 2 ^ lA A 1 0 = N := ⟨_, rfl⟩
  rw [hN] at h8 ew
  rw [hN]
  unfold fX3_knowsFact fX3_knowsFact_L5
  generalize hp : (fun w => !lH A who w || (w.testBit f == (lA A 1 1).testBit f)) = p
  refine whl_for (fun i => (nI (if allB p i then 1 else 0), nI i, hw q I L)) N rfl (fun i hi => ?_) ?_
  · have ep : p i = (!lH A who i || (i.testBit f == (lA A 1 1).testBit f)) := by rw [← hp]
    have eH := mE_isHeld (L := L) M R hq (w := i) (by omega) hW
    cases c1 : allB p i
    · simp (disch := omega) only [fX3_knowsFact_L5_b, fX3_knowsFact_L51, fX3_knowsFact_L52, nL, nI_add, nJ_mul, nJ_div, nJ_mod, nI_leI, nI_ltI, nI_eq, Option.bind_some, Option.bind_none, Nat.one_ne_zero, Nat.zero_ne_one, Nat.zero_add, Nat.add_zero, if_true, if_false, not_true_eq_false, not_false_eq_true, dm M, ew, c1, allB, Bool.false_and, Bool.false_eq_true, show ¬ N ≤ i by omega]
    · cases c2 : lH A who i
      · simp (disch := omega) only [fX3_knowsFact_L5_b, fX3_knowsFact_L47, fX3_knowsFact_L52, nL, nI_add, nJ_mul, nJ_div, nJ_mod, nI_leI, nI_ltI, nI_eq, Option.bind_some, Option.bind_none, Nat.one_ne_zero, Nat.zero_ne_one, Nat.zero_add, Nat.add_zero, if_true, if_false, not_true_eq_false, not_false_eq_true, dm M, ew, c1, allB, eH, c2, ep, Bool.not_false, Bool.true_or, Bool.true_and, Bool.false_eq_true, show ¬ N ≤ i by omega]
      · by_cases c3 : i.testBit f = (lA A 1 1).testBit f
        · simp (disch := omega) only [fX3_knowsFact_L5_b, fX3_knowsFact_L47, fX3_knowsFact_L52, nL, nI_add, nJ_mul, nJ_div, nJ_mod, nI_leI, nI_ltI, nI_eq, Option.bind_some, Option.bind_none, Nat.one_ne_zero, Nat.zero_ne_one, Nat.zero_add, Nat.add_zero, if_true, if_false, not_true_eq_false, not_false_eq_true, dm M, ew, c1, allB, eH, c2, ep, gm1 M, xm137 M, rm1 R, mE_hasN, b2_eq, c3, beq_self_eq_true, Bool.not_true, Bool.false_or, Bool.true_and, show ¬ N ≤ i by omega]
        · have c4 : (i.testBit f == (lA A 1 1).testBit f) = false := by simpa using c3
          simp (disch := omega) only [fX3_knowsFact_L5_b, fX3_knowsFact_L51, fX3_knowsFact_L52, nL, nI_add, nJ_mul, nJ_div, nJ_mod, nI_leI, nI_ltI, nI_eq, Option.bind_some, Option.bind_none, Nat.one_ne_zero, Nat.zero_ne_one, Nat.zero_add, Nat.add_zero, if_true, if_false, not_true_eq_false, not_false_eq_true, dm M, ew, c1, allB, eH, c2, ep, gm1 M, xm137 M, rm1 R, mE_hasN, b2_eq, c3, c4, Bool.not_true, Bool.false_or, Bool.false_eq_true, Bool.true_and, show ¬ N ≤ i by omega]
  · simp (disch := omega) only [fX3_knowsFact_L5_b, nL, nI_add, nJ_mul, nJ_div, nJ_mod, nI_leI, nI_ltI, nI_eq, Option.bind_some, Option.bind_none, Nat.one_ne_zero, Nat.zero_ne_one, Nat.zero_add, Nat.add_zero, if_true, if_false, not_true_eq_false, not_false_eq_true, dm M, ew, Nat.le_refl, rz_n, xr_s]
end MKN
