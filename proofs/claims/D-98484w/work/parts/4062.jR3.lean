/-! P2 JR3: both answer: run, joined -/
section JR3
variable {q : ph_t} {I : iF} {L : lF_} {A : ld_t} {T : Nat → Nat → Bool} {sM : Nat}
/-- both hold the same rules -/
def jRu (q : ph_t) (I : iF) (L : lF_) : Prop := ∃ n, n ≤ 6 ∧ I 136 31 = nI n ∧ I 64 15 = nI n ∧ ∀ r, r < n → ∃ o F, ph_R q 127 r = some o ∧ fOK F ∧ mRq q I r F ∧ bRq q I L o F
theorem J_run (J : jK q I L A T sM) (hR : jRu q I L) (v w : Int32) : jO q I L T sM (fX0_run 64 v w) (fX3_run 136 v w) := by
  obtain ⟨K, B, V⟩ := id J
  obtain ⟨M, RM, hTM, hsM, W, h24⟩ := id K
  obtain ⟨n, hn6, h31, h15, hRu⟩ := hR
  have X := B.1
  have w2 := W.1.2.2.1
  have m0 := kE_isLandB (L := L) K
  cases c0 : isL A
  · have hn : ph_R q 64 2 = none := by
      rcases B.2.2.2.2.2.2 with ⟨h1, h2, h3⟩ | ⟨h1, h2⟩
      · have := of_decide_eq_false c0; omega
      · exact h1
    exact jO_same J (r := -(nI 1)) (by simp (disch := omega) only [fX0_run, nL, nI_add, nJ_mul, nJ_div, nJ_mod, nI_leI, nI_ltI, nI_eq, Option.bind_some, Option.bind_none, Nat.one_ne_zero, Nat.zero_ne_one, Nat.zero_add, Nat.add_zero, if_true, if_false, not_true_eq_false, not_false_eq_true, gx2n X hn, nq_0]) (by simp (disch := omega) only [fX3_run, nL, nI_add, nJ_mul, nJ_div, nJ_mod, nI_leI, nI_ltI, nI_eq, Option.bind_some, Option.bind_none, Nat.one_ne_zero, Nat.zero_ne_one, Nat.zero_add, Nat.add_zero, if_true, if_false, not_true_eq_false, not_false_eq_true, dm M, m0, c0, Bool.false_eq_true])
  · have h0 : 0 < lA A 1 0 := of_decide_eq_true c0
    obtain ⟨KB, hl⟩ := B.K h0
    obtain ⟨-, G, R, -, -, -, -, -⟩ := id KB
    have x1 : fX0_isRule 64 v (hw q I L) = some (nI (if inB v n then 1 else 0), hw q I L) := by
      simp (disch := omega) only [fX0_isRule, nL, nI_add, nJ_mul, nJ_div, nJ_mod, nI_leI, nI_ltI, nI_eq, Option.bind_some, Option.bind_none, Nat.one_ne_zero, Nat.zero_ne_one, Nat.zero_add, Nat.add_zero, if_true, if_false, not_true_eq_false, not_false_eq_true, gx_I X, h15, in_two]
    have m1 : fX3_isRule 136 v (hw q I L) = some (nI (if inB v n then 1 else 0), hw q I L) := by
      unfold fX3_isRule
      rw [gm_I M, h31, Option.bind_some]
      have := in_n v (n := n) (by omega) (hw q I L)
      rw [nL 1, this, Option.bind_some, rz_n]
    have x2 := fun g => xin_lit (v := w) (lo := 1) (hi := 60) (l := 1) (k := 60) (by decide +kernel) (by decide +kernel) g
    have m2 := fun g => in_lit (v := w) (lo := 1) (hi := 60) (l := 1) (k := 60) (by decide +kernel) (by decide +kernel) g
    cases c1 : inB v n
    · exact jO_same J (r := -(nI 1)) (by simp (disch := omega) only [fX0_run, nL, nI_add, nJ_mul, nJ_div, nJ_mod, nI_leI, nI_ltI, nI_eq, Option.bind_some, Option.bind_none, Nat.one_ne_zero, Nat.zero_ne_one, Nat.zero_add, Nat.add_zero, if_true, if_false, not_true_eq_false, not_false_eq_true, gx2 X hl, nq_66, dx X, x1, c1, Bool.false_eq_true]) (by simp (disch := omega) only [fX3_run, nL, nI_add, nJ_mul, nJ_div, nJ_mod, nI_leI, nI_ltI, nI_eq, Option.bind_some, Option.bind_none, Nat.one_ne_zero, Nat.zero_ne_one, Nat.zero_add, Nat.add_zero, if_true, if_false, not_true_eq_false, not_false_eq_true, dm M, m0, c0, m1, c1, Bool.false_eq_true])
    · cases c2 : inR w 1 60
      · exact jO_same J (r := -(nI 1)) (by simp (disch := omega) only [fX0_run, nL, nI_add, nJ_mul, nJ_div, nJ_mod, nI_leI, nI_ltI, nI_eq, Option.bind_some, Option.bind_none, Nat.one_ne_zero, Nat.zero_ne_one, Nat.zero_add, Nat.add_zero, if_true, if_false, not_true_eq_false, not_false_eq_true, gx2 X hl, nq_66, dx X, x1, c1, x2, c2, Bool.false_eq_true]) (by simp (disch := omega) only [fX3_run, nL, nI_add, nJ_mul, nJ_div, nJ_mod, nI_leI, nI_ltI, nI_eq, Option.bind_some, Option.bind_none, Nat.one_ne_zero, Nat.zero_ne_one, Nat.zero_add, Nat.add_zero, if_true, if_false, not_true_eq_false, not_false_eq_true, dm M, m0, c0, m1, c1, m2, c2, Bool.false_eq_true])
      · obtain ⟨r, hr, rfl⟩ := inB_of c1 (by omega)
        obtain ⟨k, hk1, hk, rfl⟩ := inR_of c2 (by omega)
        have hd := V.1.1
        by_cases c3 : lA A 1 6 + k ≤ 9999
        · obtain ⟨o, F, ho, hF, hm, hb⟩ := hRu r hr
          have f1 : frG 66 I (ph_u I 66 7 (nI 0)) := frG.rf.up (by omega)
          obtain ⟨I3, L3, a1, a2, a3, a4⟩ := bK_run57 (bK_00 KB) hl hF (r := r) (by omega) ho (hb.fr f1 frWL.rf) (n := k) hk (by rw [l00_1]; omega)
          have fX : frX I I3 := (f1.tr a2).X (Or.inl rfl)
          have fL : frXL L L3 := fun a ha => a3 a (by omega) (by omega)
          have K3 := K.X fX
          have hm3 : mRq q I3 r F := fun U N hU => hm U N (fun a h1 h2 => (hU a h1 h2).trans (fX.1 a (by omega)))
          have hm4 : mRq q (ph_u I3 136 59 (nI 0)) r F := fun U N hU => hm3 U N (fun a h1 h2 => (hU a h1 h2).trans (by rw [pu_ne (by omega)]))
          obtain ⟨J1, N1, b1, b2, b3, b4⟩ := kE_run54 (L := L3) (mK_00 K3) hF hm4 (n := k) hk (by rw [l00_1]; omega)
          have m03 := kE_isLandB (L := L3) K3
          have e0 : ∀ {f i : Nat}, (f = 0 ∨ (f = 1 ∧ i ≠ 1 ∧ i ≠ 6)) → lA (rbN T F sM (lSet A 0 0 0) k).1 f i = lA (lSet A 0 0 0) f i := fun h => rbN_st h k
          have e6 : lA (rbN T F sM (lSet A 0 0 0) k).1 1 6 = lA A 1 6 + k := by rw [rbN_6 k, l00_1]
          have m13 : fX3_isRule 136 (nI r) (hw q I3 L3) = some (nI 1, hw q I3 L3) := by
            unfold fX3_isRule
            rw [gm_I M, fX.1 136 (by omega), h31, Option.bind_some]
            have := in_n (nI r) (n := n) (by omega) (hw q I3 L3)
            rw [nL 1, this, Option.bind_some, rz_n, c1]
            rfl
          have e36 : I3 137 6 = nI (lA A 1 6) := rm1 K3.2.1 (by decide)
          refine jO_mk (I1 := I3) (L1 := L3) (A' := (rbN T F sM (lSet A 0 0 0) k).1) (r := nI (rbN T F sM (lSet A 0 0 0) k).2) ?_ fX fL (a4.toL hl (by rw [e0 (by omega), l00_1]; exact h0) (by rw [e0 (by omega), l00_1, a2 64 (by omega), pu_ne (by decide)]; exact B.2.2.2.1)) ⟨⟨by rw [e6]; exact c3, by rw [e0 (by omega), l00_1]; exact V.1.2⟩, fun j hj => by
            rw [e0 (by omega), l00_0] at hj
            exact absurd hj (Nat.not_lt_zero j)⟩ ⟨J1, N1, ?_, (frT.rf.up (by omega)).tr b2.T, b3, b4⟩
          · simp (disch := omega) only [fX0_run, nL, nI_add, nJ_mul, nJ_div, nJ_mod, nI_leI, nI_ltI, nI_eq, Option.bind_some, Option.bind_none, Nat.one_ne_zero, Nat.zero_ne_one, Nat.zero_add, Nat.add_zero, if_true, if_false, not_true_eq_false, not_false_eq_true, gx2 X hl, nq_66, dx X, x1, c1, x2, c2, gl_I G, R.f6, c3, sl_I G, a1]
          · simp (disch := omega) only [fX3_run, nL, nI_add, nJ_mul, nJ_div, nJ_mod, nI_leI, nI_ltI, nI_eq, Option.bind_some, Option.bind_none, Nat.one_ne_zero, Nat.zero_ne_one, Nat.zero_add, Nat.add_zero, if_true, if_false, not_true_eq_false, not_false_eq_true, dm M, m03, c0, m13, m2, c2, gm1 M, xm137 M, e36, c3, sm_I M, b1]
        · exact jO_same J (r := -(nI 1)) (by simp (disch := omega) only [fX0_run, nL, nI_add, nJ_mul, nJ_div, nJ_mod, nI_leI, nI_ltI, nI_eq, Option.bind_some, Option.bind_none, Nat.one_ne_zero, Nat.zero_ne_one, Nat.zero_add, Nat.add_zero, if_true, if_false, not_true_eq_false, not_false_eq_true, gx2 X hl, nq_66, dx X, x1, c1, x2, c2, gl_I G, R.f6, c3]) (by simp (disch := omega) only [fX3_run, nL, nI_add, nJ_mul, nJ_div, nJ_mod, nI_leI, nI_ltI, nI_eq, Option.bind_some, Option.bind_none, Nat.one_ne_zero, Nat.zero_ne_one, Nat.zero_add, Nat.add_zero, if_true, if_false, not_true_eq_false, not_false_eq_true, dm M, m0, c0, m1, c1, m2, c2, gm1 M, xm137 M, rm1 RM, c3])
end JR3
