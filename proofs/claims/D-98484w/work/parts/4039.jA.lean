/-! P2 JA: both answer: what is only asked -/
section JA
variable {q : ph_t} {I : iF} {L : lF_} {A : ld_t} {T : Nat → Nat → Bool} {sM : Nat}
theorem J_place (J : jK q I L A T sM) (v : Int32) : jO q I L T sM (fX0_place 64 v) (fX3_place 136 v) := by
  obtain ⟨K, B, V⟩ := id J
  obtain ⟨M, RM, -⟩ := id K
  have X := B.1
  have W := B.W
  have w3 := W.1.2.2.2.1
  have e1 := bL_isPlace B v
  have e2 := kE_isPlace (L := L) K v
  cases c : inB v (lA A 1 3)
  · exact jO_same J (r := -(nI 1)) (by simp (disch := omega) only [fX0_place, nL, nI_add, nJ_mul, nJ_div, nJ_mod, nI_leI, nI_ltI, nI_eq, Option.bind_some, Option.bind_none, Nat.one_ne_zero, Nat.zero_ne_one, Nat.zero_add, Nat.add_zero, if_true, if_false, not_true_eq_false, not_false_eq_true, dx X, e1, c, Bool.false_eq_true]) (by simp (disch := omega) only [fX3_place, nL, nI_add, nJ_mul, nJ_div, nJ_mod, nI_leI, nI_ltI, nI_eq, Option.bind_some, Option.bind_none, Nat.one_ne_zero, Nat.zero_ne_one, Nat.zero_add, Nat.add_zero, if_true, if_false, not_true_eq_false, not_false_eq_true, dm M, e2, c, Bool.false_eq_true])
  · obtain ⟨p, hp, rfl⟩ := inB_of c (by omega)
    obtain ⟨⟨-, G, R, -⟩, hl⟩ := B.K (B.pos (j := 3) (by decide) (by omega))
    exact jO_same J (r := nI (lA A 7 p)) (by simp (disch := omega) only [fX0_place, nL, nI_add, nJ_mul, nJ_div, nJ_mod, nI_leI, nI_ltI, nI_eq, Option.bind_some, Option.bind_none, Nat.one_ne_zero, Nat.zero_ne_one, Nat.zero_add, Nat.add_zero, if_true, if_false, not_true_eq_false, not_false_eq_true, e1, c, dx X, gx_I X, gx2 X hl, dl G, gl_I G, gl9 G, xl9 G, gl10 G, xl10 G, gl11 G, xl11 G, gl12 G, xl12 G, gl13 G, xl13 G, gl14 G, xl14 G, gl15 G, xl15 G, gl16 G, xl16 G, gl17 G, xl17 G, gl18 G, xl18 G, gl19 G, xl19 G, gl20 G, xl20 G, gl21 G, xl21 G, R.f0, R.f1, R.f2, R.f3, R.f4, R.f5, R.f6, R.f7, R.f8, rl1 R, rl2 R, rl3 R, rl4 R, rl5 R, rl6 R, rl7 R, rl8 R, rl9 R, rl10 R, rl11 R]) (by simp (disch := omega) only [fX3_place, nL, nI_add, nJ_mul, nJ_div, nJ_mod, nI_leI, nI_ltI, nI_eq, Option.bind_some, Option.bind_none, Nat.one_ne_zero, Nat.zero_ne_one, Nat.zero_add, Nat.add_zero, if_true, if_false, not_true_eq_false, not_false_eq_true, e2, c, dm M, gm_I M, gm1 M, xm137 M, gm2 M, xm138 M, gm3 M, xm139 M, gm4 M, xm140 M, gm5 M, xm141 M, gm6 M, xm142 M, gm7 M, xm143 M, gm8 M, xm144 M, gm9 M, xm145 M, gm10 M, xm146 M, gm11 M, xm147 M, gm12 M, xm148 M, gm13 M, xm149 M, gm14 M, xm150 M, gm15 M, xm151 M, gm16 M, xm152 M, gm17 M, xm153 M, gm18 M, xm154 M, gm19 M, xm155 M, gm20 M, xm156 M, gm21 M, xm157 M, gm22 M, xm158 M, gm23 M, xm159 M, gm24 M, xm160 M, gm25 M, xm161 M, gm26 M, xm162 M, gm38 M, xm163 M, gm39 M, xm164 M, gm40 M, xm165 M, gm41 M, xm166 M, gm42 M, xm167 M, gm43 M, xm168 M, gm44 M, xm169 M, gm45 M, xm170 M, gm46 M, xm171 M, gm47 M, xm172 M, gm48 M, xm173 M, gm49 M, xm174 M, gm50 M, xm175 M, gm54 M, xm176 M, gm55 M, xm177 M, gm56 M, xm178 M, gm57 M, xm179 M, gm58 M, xm180 M, gm62 M, xm181 M, gm63 M, xm182 M, gm64 M, xm183 M, gm65 M, xm184 M, gm66 M, xm185 M, gm69 M, xm186 M, gm70 M, xm187 M, gm73 M, xm188 M, gm74 M, xm189 M, rmU RM, rm1 RM, rm2 RM, rm3 RM, rm4 RM, rm5 RM, rm6 RM, rm7 RM, rm8 RM, rm9 RM, rm10 RM, rm11 RM, rm12 RM, rm13 RM, rm14 RM])
theorem J_fact (J : jK q I L A T sM) (v : Int32) : jO q I L T sM (fX0_fact 64 v) (fX3_fact_2 136 v) := by
  obtain ⟨K, B, V⟩ := id J
  obtain ⟨M, RM, -⟩ := id K
  have X := B.1
  have W := B.W
  have w0 := W.1.1
  have w8 := p2_8 w0
  have hso := W.1.2.1
  have e2 := kE_isFact (L := L) K v
  obtain ⟨-, -, -, -, -, -, hl⟩ := id B
  rcases hl with ⟨hl, R, h0⟩ | ⟨hl, hb⟩
  · have G := X.land
    cases c : inB v (lA A 1 0)
    · have c0 : ¬ (0 ≤ v.toInt ∧ v.toInt < (lA A 1 0 : Int)) := fun z => by rw [inB_iff.mpr z] at c; cases c
      refine jO_same J (r := -(nI 1)) ?_ (by simp (disch := omega) only [fX3_fact_2, nL, nI_add, nJ_mul, nJ_div, nJ_mod, nI_leI, nI_ltI, nI_eq, Option.bind_some, Option.bind_none, Nat.one_ne_zero, Nat.zero_ne_one, Nat.zero_add, Nat.add_zero, if_true, if_false, not_true_eq_false, not_false_eq_true, dm M, e2, c, Bool.false_eq_true])
      have cl : (v < nI (lA A 1 0)) = (v.toInt < (lA A 1 0 : Int)) := propext (by rw [Int32.lt_iff_toInt_lt, nI_toInt (by omega)])
      by_cases c1 : v.toInt < 0
      · simp (disch := omega) only [fX0_fact, fX0_fact_L22, nL, nI_add, nJ_mul, nJ_div, nJ_mod, nI_leI, nI_ltI, nI_eq, Option.bind_some, Option.bind_none, Nat.one_ne_zero, Nat.zero_ne_one, Nat.zero_add, Nat.add_zero, if_true, if_false, not_true_eq_false, not_false_eq_true, gx2 X hl, nq_66, ltJ_0, c1]
      · simp (disch := omega) only [fX0_fact, fX0_fact_L22, nL, nI_add, nJ_mul, nJ_div, nJ_mod, nI_leI, nI_ltI, nI_eq, Option.bind_some, Option.bind_none, Nat.one_ne_zero, Nat.zero_ne_one, Nat.zero_add, Nat.add_zero, if_true, if_false, not_true_eq_false, not_false_eq_true, gx2 X hl, nq_66, ltJ_0, c1, gl_I G, R.f0, cl, show ¬ v.toInt < (lA A 1 0 : Int) by omega]
    · obtain ⟨p, hp, rfl⟩ := inB_of c (by omega)
      refine jO_same J (r := nI (if (lA A 1 1).testBit p then 1 else 0)) ?_ (by simp (disch := omega) only [fX3_fact_2, nL, nI_add, nJ_mul, nJ_div, nJ_mod, nI_leI, nI_ltI, nI_eq, Option.bind_some, Option.bind_none, Nat.one_ne_zero, Nat.zero_ne_one, Nat.zero_add, Nat.add_zero, if_true, if_false, not_true_eq_false, not_false_eq_true, e2, c, dm M, gm_I M, gm1 M, xm137 M, gm2 M, xm138 M, gm3 M, xm139 M, gm4 M, xm140 M, gm5 M, xm141 M, gm6 M, xm142 M, gm7 M, xm143 M, gm8 M, xm144 M, gm9 M, xm145 M, gm10 M, xm146 M, gm11 M, xm147 M, gm12 M, xm148 M, gm13 M, xm149 M, gm14 M, xm150 M, gm15 M, xm151 M, gm16 M, xm152 M, gm17 M, xm153 M, gm18 M, xm154 M, gm19 M, xm155 M, gm20 M, xm156 M, gm21 M, xm157 M, gm22 M, xm158 M, gm23 M, xm159 M, gm24 M, xm160 M, gm25 M, xm161 M, gm26 M, xm162 M, gm38 M, xm163 M, gm39 M, xm164 M, gm40 M, xm165 M, gm41 M, xm166 M, gm42 M, xm167 M, gm43 M, xm168 M, gm44 M, xm169 M, gm45 M, xm170 M, gm46 M, xm171 M, gm47 M, xm172 M, gm48 M, xm173 M, gm49 M, xm174 M, gm50 M, xm175 M, gm54 M, xm176 M, gm55 M, xm177 M, gm56 M, xm178 M, gm57 M, xm179 M, gm58 M, xm180 M, gm62 M, xm181 M, gm63 M, xm182 M, gm64 M, xm183 M, gm65 M, xm184 M, gm66 M, xm185 M, gm69 M, xm186 M, gm70 M, xm187 M, gm73 M, xm188 M, gm74 M, xm189 M, rmU RM, rm1 RM, rm2 RM, rm3 RM, rm4 RM, rm5 RM, rm6 RM, rm7 RM, rm8 RM, rm9 RM, rm10 RM, rm11 RM, rm12 RM, rm13 RM, rm14 RM, bn_is, bt_nI])
      cases c2 : (lA A 1 1).testBit p
      · simp (disch := omega) only [fX0_fact, fX0_fact_L22, nL, nI_add, nJ_mul, nJ_div, nJ_mod, nI_leI, nI_ltI, nI_eq, Option.bind_some, Option.bind_none, Nat.one_ne_zero, Nat.zero_ne_one, Nat.zero_add, Nat.add_zero, if_true, if_false, not_true_eq_false, not_false_eq_true, nq_66, dx X, gx_I X, gx2 X hl, dl G, gl_I G, gl9 G, xl9 G, gl10 G, xl10 G, gl11 G, xl11 G, gl12 G, xl12 G, gl13 G, xl13 G, gl14 G, xl14 G, gl15 G, xl15 G, gl16 G, xl16 G, gl17 G, xl17 G, gl18 G, xl18 G, gl19 G, xl19 G, gl20 G, xl20 G, gl21 G, xl21 G, R.f0, R.f1, R.f2, R.f3, R.f4, R.f5, R.f6, R.f7, R.f8, rl1 R, rl2 R, rl3 R, rl4 R, rl5 R, rl6 R, rl7 R, rl8 R, rl9 R, rl10 R, rl11 R, show ¬ p < 0 by omega, hp, bE_hasN, c2, Bool.false_eq_true]
      · simp (disch := omega) only [fX0_fact, fX0_fact_L22, nL, nI_add, nJ_mul, nJ_div, nJ_mod, nI_leI, nI_ltI, nI_eq, Option.bind_some, Option.bind_none, Nat.one_ne_zero, Nat.zero_ne_one, Nat.zero_add, Nat.add_zero, if_true, if_false, not_true_eq_false, not_false_eq_true, nq_66, dx X, gx_I X, gx2 X hl, dl G, gl_I G, gl9 G, xl9 G, gl10 G, xl10 G, gl11 G, xl11 G, gl12 G, xl12 G, gl13 G, xl13 G, gl14 G, xl14 G, gl15 G, xl15 G, gl16 G, xl16 G, gl17 G, xl17 G, gl18 G, xl18 G, gl19 G, xl19 G, gl20 G, xl20 G, gl21 G, xl21 G, R.f0, R.f1, R.f2, R.f3, R.f4, R.f5, R.f6, R.f7, R.f8, rl1 R, rl2 R, rl3 R, rl4 R, rl5 R, rl6 R, rl7 R, rl8 R, rl9 R, rl10 R, rl11 R, show ¬ p < 0 by omega, hp, bE_hasN, c2]
  · have : inB v (lA A 1 0) = false := by rw [hb.1 0 (by decide)]; exact inB_0
    exact jO_same J (r := -(nI 1)) (by simp (disch := omega) only [fX0_fact, fX0_fact_L22, nL, nI_add, nJ_mul, nJ_div, nJ_mod, nI_leI, nI_ltI, nI_eq, Option.bind_some, Option.bind_none, Nat.one_ne_zero, Nat.zero_ne_one, Nat.zero_add, Nat.add_zero, if_true, if_false, not_true_eq_false, not_false_eq_true, gx2n X hl, nq_0]) (by simp (disch := omega) only [fX3_fact_2, nL, nI_add, nJ_mul, nJ_div, nJ_mod, nI_leI, nI_ltI, nI_eq, Option.bind_some, Option.bind_none, Nat.one_ne_zero, Nat.zero_ne_one, Nat.zero_add, Nat.add_zero, if_true, if_false, not_true_eq_false, not_false_eq_true, dm M, e2, this, Bool.false_eq_true])
theorem J_so (J : jK q I L A T sM) (v w : Int32) : jO q I L T sM (fX0_so 64 v w) (fX3_so 136 v w) := by
  obtain ⟨K, B, V⟩ := id J
  obtain ⟨M, RM, -⟩ := id K
  obtain ⟨X, hT, -, -, W, h24, -⟩ := id B
  have w8 := p2_8 W.1.1
  have e1 := bL_isSaying B v
  have e2 := kE_isSaying (L := L) K v
  have e3 := bL_isWorld B w
  have e4 := kE_isWorld (L := L) K w
  cases c : inB v sM
  · exact jO_same J (r := -(nI 1)) (by simp (disch := omega) only [fX0_so, fX0_so_L16, nL, nI_add, nJ_mul, nJ_div, nJ_mod, nI_leI, nI_ltI, nI_eq, Option.bind_some, Option.bind_none, Nat.one_ne_zero, Nat.zero_ne_one, Nat.zero_add, Nat.add_zero, if_true, if_false, not_true_eq_false, not_false_eq_true, dx X, e1, c, Bool.false_eq_true]) (by simp (disch := omega) only [fX3_so, nL, nI_add, nJ_mul, nJ_div, nJ_mod, nI_leI, nI_ltI, nI_eq, Option.bind_some, Option.bind_none, Nat.one_ne_zero, Nat.zero_ne_one, Nat.zero_add, Nat.add_zero, if_true, if_false, not_true_eq_false, not_false_eq_true, dm M, e2, c, Bool.false_eq_true])
  · cases c2 : (isL A && inB w (2 ^ lA A 1 0))
    · exact jO_same J (r := -(nI 1)) (by simp (disch := omega) only [fX0_so, fX0_so_L16, nL, nI_add, nJ_mul, nJ_div, nJ_mod, nI_leI, nI_ltI, nI_eq, Option.bind_some, Option.bind_none, Nat.one_ne_zero, Nat.zero_ne_one, Nat.zero_add, Nat.add_zero, if_true, if_false, not_true_eq_false, not_false_eq_true, dx X, e1, c, e3, c2, Bool.false_eq_true]) (by simp (disch := omega) only [fX3_so, nL, nI_add, nJ_mul, nJ_div, nJ_mod, nI_leI, nI_ltI, nI_eq, Option.bind_some, Option.bind_none, Nat.one_ne_zero, Nat.zero_ne_one, Nat.zero_add, Nat.add_zero, if_true, if_false, not_true_eq_false, not_false_eq_true, dm M, e2, c, e4, c2, Bool.false_eq_true])
    · obtain ⟨s, hs, rfl⟩ := inB_of c (by omega)
      have c3 : inB w (2 ^ lA A 1 0) = true := by rw [Bool.and_eq_true] at c2; exact c2.2
      obtain ⟨p, hp, rfl⟩ := inB_of c3 (by omega)
      have e5 := bE_isSo (I := I) (L := L) X hT hs (w := p) (by omega) h24
      have e6 := mE_isSo (I := I) (L := L) M K.2.2.1 hs (w := p) (by omega) h24
      refine jO_same J (r := nI (if T s p then 1 else 0)) ?_ ?_
      · cases c4 : T s p
        · simp (disch := omega) only [fX0_so, fX0_so_L16, nL, nI_add, nJ_mul, nJ_div, nJ_mod, nI_leI, nI_ltI, nI_eq, Option.bind_some, Option.bind_none, Nat.one_ne_zero, Nat.zero_ne_one, Nat.zero_add, Nat.add_zero, if_true, if_false, not_true_eq_false, not_false_eq_true, dx X, e1, c, e3, c2, e5, c4, Bool.false_eq_true]
        · simp (disch := omega) only [fX0_so, fX0_so_L16, nL, nI_add, nJ_mul, nJ_div, nJ_mod, nI_leI, nI_ltI, nI_eq, Option.bind_some, Option.bind_none, Nat.one_ne_zero, Nat.zero_ne_one, Nat.zero_add, Nat.add_zero, if_true, if_false, not_true_eq_false, not_false_eq_true, dx X, e1, c, e3, c2, e5, c4]
      · cases c4 : T s p
        · simp (disch := omega) only [fX3_so, nL, nI_add, nJ_mul, nJ_div, nJ_mod, nI_leI, nI_ltI, nI_eq, Option.bind_some, Option.bind_none, Nat.one_ne_zero, Nat.zero_ne_one, Nat.zero_add, Nat.add_zero, if_true, if_false, not_true_eq_false, not_false_eq_true, dm M, e2, c, e4, c2, e6, c4, Bool.false_eq_true]
        · simp (disch := omega) only [fX3_so, nL, nI_add, nJ_mul, nJ_div, nJ_mod, nI_leI, nI_ltI, nI_eq, Option.bind_some, Option.bind_none, Nat.one_ne_zero, Nat.zero_ne_one, Nat.zero_add, Nat.add_zero, if_true, if_false, not_true_eq_false, not_false_eq_true, dm M, e2, c, e4, c2, e6, c4]
theorem J_isTrue (J : jK q I L A T sM) (v : Int32) : jO q I L T sM (fX0_isTrue 64 v) (fX3_isTrue 136 v) := by
  obtain ⟨K, B, V⟩ := id J
  obtain ⟨M, RM, -⟩ := id K
  obtain ⟨X, hT, -, -, W, h24, -⟩ := id B
  have w8 := p2_8 W.1.1
  have hso := W.1.2.1
  have e1 := bL_isAsked B v
  have e2 := kE_isSaying (L := L) K v
  have e3 := kE_isLandB (L := L) K
  cases c : inB v sM
  · exact jO_same J (r := -(nI 1)) (by simp (disch := omega) only [fX0_isTrue, nL, nI_add, nJ_mul, nJ_div, nJ_mod, nI_leI, nI_ltI, nI_eq, Option.bind_some, Option.bind_none, Nat.one_ne_zero, Nat.zero_ne_one, Nat.zero_add, Nat.add_zero, if_true, if_false, not_true_eq_false, not_false_eq_true, dx X, e1, c, Bool.and_false, Bool.false_eq_true]) (by simp (disch := omega) only [fX3_isTrue, nL, nI_add, nJ_mul, nJ_div, nJ_mod, nI_leI, nI_ltI, nI_eq, Option.bind_some, Option.bind_none, Nat.one_ne_zero, Nat.zero_ne_one, Nat.zero_add, Nat.add_zero, if_true, if_false, not_true_eq_false, not_false_eq_true, dm M, e2, c, Bool.false_eq_true])
  · cases c2 : isL A
    · exact jO_same J (r := -(nI 1)) (by simp (disch := omega) only [fX0_isTrue, nL, nI_add, nJ_mul, nJ_div, nJ_mod, nI_leI, nI_ltI, nI_eq, Option.bind_some, Option.bind_none, Nat.one_ne_zero, Nat.zero_ne_one, Nat.zero_add, Nat.add_zero, if_true, if_false, not_true_eq_false, not_false_eq_true, dx X, e1, c2, Bool.false_and, Bool.false_eq_true]) (by simp (disch := omega) only [fX3_isTrue, nL, nI_add, nJ_mul, nJ_div, nJ_mod, nI_leI, nI_ltI, nI_eq, Option.bind_some, Option.bind_none, Nat.one_ne_zero, Nat.zero_ne_one, Nat.zero_add, Nat.add_zero, if_true, if_false, not_true_eq_false, not_false_eq_true, dm M, e2, c, e3, c2, Bool.false_eq_true])
    · obtain ⟨⟨-, G, R, -⟩, hl⟩ := B.K (isL_iff.mp c2)
      obtain ⟨s, hs, rfl⟩ := inB_of c (by omega)
      have e5 := bE_isSo (I := I) (L := L) X hT hs (w := lA A 1 1) (by omega) h24
      have e6 := mE_isSo (I := I) (L := L) M K.2.2.1 hs (w := lA A 1 1) (by omega) h24
      refine jO_same J (r := nI (if T s (lA A 1 1) then 1 else 0)) ?_ ?_
      · cases c4 : T s (lA A 1 1)
        · simp (disch := omega) only [fX0_isTrue, nL, nI_add, nJ_mul, nJ_div, nJ_mod, nI_leI, nI_ltI, nI_eq, Option.bind_some, Option.bind_none, Nat.one_ne_zero, Nat.zero_ne_one, Nat.zero_add, Nat.add_zero, if_true, if_false, not_true_eq_false, not_false_eq_true, e1, c, c2, Bool.true_and, dx X, gx_I X, gx2 X hl, dl G, gl_I G, gl9 G, xl9 G, gl10 G, xl10 G, gl11 G, xl11 G, gl12 G, xl12 G, gl13 G, xl13 G, gl14 G, xl14 G, gl15 G, xl15 G, gl16 G, xl16 G, gl17 G, xl17 G, gl18 G, xl18 G, gl19 G, xl19 G, gl20 G, xl20 G, gl21 G, xl21 G, R.f0, R.f1, R.f2, R.f3, R.f4, R.f5, R.f6, R.f7, R.f8, rl1 R, rl2 R, rl3 R, rl4 R, rl5 R, rl6 R, rl7 R, rl8 R, rl9 R, rl10 R, rl11 R, e5, c4, Bool.false_eq_true]
        · simp (disch := omega) only [fX0_isTrue, nL, nI_add, nJ_mul, nJ_div, nJ_mod, nI_leI, nI_ltI, nI_eq, Option.bind_some, Option.bind_none, Nat.one_ne_zero, Nat.zero_ne_one, Nat.zero_add, Nat.add_zero, if_true, if_false, not_true_eq_false, not_false_eq_true, e1, c, c2, Bool.true_and, dx X, gx_I X, gx2 X hl, dl G, gl_I G, gl9 G, xl9 G, gl10 G, xl10 G, gl11 G, xl11 G, gl12 G, xl12 G, gl13 G, xl13 G, gl14 G, xl14 G, gl15 G, xl15 G, gl16 G, xl16 G, gl17 G, xl17 G, gl18 G, xl18 G, gl19 G, xl19 G, gl20 G, xl20 G, gl21 G, xl21 G, R.f0, R.f1, R.f2, R.f3, R.f4, R.f5, R.f6, R.f7, R.f8, rl1 R, rl2 R, rl3 R, rl4 R, rl5 R, rl6 R, rl7 R, rl8 R, rl9 R, rl10 R, rl11 R, e5, c4]
      · cases c4 : T s (lA A 1 1)
        · simp (disch := omega) only [fX3_isTrue, nL, nI_add, nJ_mul, nJ_div, nJ_mod, nI_leI, nI_ltI, nI_eq, Option.bind_some, Option.bind_none, Nat.one_ne_zero, Nat.zero_ne_one, Nat.zero_add, Nat.add_zero, if_true, if_false, not_true_eq_false, not_false_eq_true, e2, c, e3, c2, dm M, gm_I M, gm1 M, xm137 M, gm2 M, xm138 M, gm3 M, xm139 M, gm4 M, xm140 M, gm5 M, xm141 M, gm6 M, xm142 M, gm7 M, xm143 M, gm8 M, xm144 M, gm9 M, xm145 M, gm10 M, xm146 M, gm11 M, xm147 M, gm12 M, xm148 M, gm13 M, xm149 M, gm14 M, xm150 M, gm15 M, xm151 M, gm16 M, xm152 M, gm17 M, xm153 M, gm18 M, xm154 M, gm19 M, xm155 M, gm20 M, xm156 M, gm21 M, xm157 M, gm22 M, xm158 M, gm23 M, xm159 M, gm24 M, xm160 M, gm25 M, xm161 M, gm26 M, xm162 M, gm38 M, xm163 M, gm39 M, xm164 M, gm40 M, xm165 M, gm41 M, xm166 M, gm42 M, xm167 M, gm43 M, xm168 M, gm44 M, xm169 M, gm45 M, xm170 M, gm46 M, xm171 M, gm47 M, xm172 M, gm48 M, xm173 M, gm49 M, xm174 M, gm50 M, xm175 M, gm54 M, xm176 M, gm55 M, xm177 M, gm56 M, xm178 M, gm57 M, xm179 M, gm58 M, xm180 M, gm62 M, xm181 M, gm63 M, xm182 M, gm64 M, xm183 M, gm65 M, xm184 M, gm66 M, xm185 M, gm69 M, xm186 M, gm70 M, xm187 M, gm73 M, xm188 M, gm74 M, xm189 M, rmU RM, rm1 RM, rm2 RM, rm3 RM, rm4 RM, rm5 RM, rm6 RM, rm7 RM, rm8 RM, rm9 RM, rm10 RM, rm11 RM, rm12 RM, rm13 RM, rm14 RM, e6, c4, Bool.false_eq_true]
        · simp (disch := omega) only [fX3_isTrue, nL, nI_add, nJ_mul, nJ_div, nJ_mod, nI_leI, nI_ltI, nI_eq, Option.bind_some, Option.bind_none, Nat.one_ne_zero, Nat.zero_ne_one, Nat.zero_add, Nat.add_zero, if_true, if_false, not_true_eq_false, not_false_eq_true, e2, c, e3, c2, dm M, gm_I M, gm1 M, xm137 M, gm2 M, xm138 M, gm3 M, xm139 M, gm4 M, xm140 M, gm5 M, xm141 M, gm6 M, xm142 M, gm7 M, xm143 M, gm8 M, xm144 M, gm9 M, xm145 M, gm10 M, xm146 M, gm11 M, xm147 M, gm12 M, xm148 M, gm13 M, xm149 M, gm14 M, xm150 M, gm15 M, xm151 M, gm16 M, xm152 M, gm17 M, xm153 M, gm18 M, xm154 M, gm19 M, xm155 M, gm20 M, xm156 M, gm21 M, xm157 M, gm22 M, xm158 M, gm23 M, xm159 M, gm24 M, xm160 M, gm25 M, xm161 M, gm26 M, xm162 M, gm38 M, xm163 M, gm39 M, xm164 M, gm40 M, xm165 M, gm41 M, xm166 M, gm42 M, xm167 M, gm43 M, xm168 M, gm44 M, xm169 M, gm45 M, xm170 M, gm46 M, xm171 M, gm47 M, xm172 M, gm48 M, xm173 M, gm49 M, xm174 M, gm50 M, xm175 M, gm54 M, xm176 M, gm55 M, xm177 M, gm56 M, xm178 M, gm57 M, xm179 M, gm58 M, xm180 M, gm62 M, xm181 M, gm63 M, xm182 M, gm64 M, xm183 M, gm65 M, xm184 M, gm66 M, xm185 M, gm69 M, xm186 M, gm70 M, xm187 M, gm73 M, xm188 M, gm74 M, xm189 M, rmU RM, rm1 RM, rm2 RM, rm3 RM, rm4 RM, rm5 RM, rm6 RM, rm7 RM, rm8 RM, rm9 RM, rm10 RM, rm11 RM, rm12 RM, rm13 RM, rm14 RM, e6, c4]
theorem J_gain (J : jK q I L A T sM) (v : Int32) : jO q I L T sM (fX0_gain 64 v) (fX3_gain 136 v) := by
  obtain ⟨K, B, V⟩ := id J
  obtain ⟨M, RM, -⟩ := id K
  obtain ⟨X, hT, -, -, W, h24, -⟩ := id B
  have e1 := bL_isAsked B v
  have e2 := kE_isSaying (L := L) K v
  have e3 := kE_isLandB (L := L) K
  cases c : inB v sM
  · exact jO_same J (r := -(nI 1)) (by simp (disch := omega) only [fX0_gain, nL, nI_add, nJ_mul, nJ_div, nJ_mod, nI_leI, nI_ltI, nI_eq, Option.bind_some, Option.bind_none, Nat.one_ne_zero, Nat.zero_ne_one, Nat.zero_add, Nat.add_zero, if_true, if_false, not_true_eq_false, not_false_eq_true, dx X, e1, c, Bool.and_false, Bool.false_eq_true]) (by simp (disch := omega) only [fX3_gain, nL, nI_add, nJ_mul, nJ_div, nJ_mod, nI_leI, nI_ltI, nI_eq, Option.bind_some, Option.bind_none, Nat.one_ne_zero, Nat.zero_ne_one, Nat.zero_add, Nat.add_zero, if_true, if_false, not_true_eq_false, not_false_eq_true, dm M, e2, c, Bool.false_eq_true])
  · cases c2 : isL A
    · exact jO_same J (r := -(nI 1)) (by simp (disch := omega) only [fX0_gain, nL, nI_add, nJ_mul, nJ_div, nJ_mod, nI_leI, nI_ltI, nI_eq, Option.bind_some, Option.bind_none, Nat.one_ne_zero, Nat.zero_ne_one, Nat.zero_add, Nat.add_zero, if_true, if_false, not_true_eq_false, not_false_eq_true, dx X, e1, c2, Bool.false_and, Bool.false_eq_true]) (by simp (disch := omega) only [fX3_gain, nL, nI_add, nJ_mul, nJ_div, nJ_mod, nI_leI, nI_ltI, nI_eq, Option.bind_some, Option.bind_none, Nat.one_ne_zero, Nat.zero_ne_one, Nat.zero_add, Nat.add_zero, if_true, if_false, not_true_eq_false, not_false_eq_true, dm M, e2, c, e3, c2, Bool.false_eq_true])
    · obtain ⟨⟨-, G, R, -⟩, hl⟩ := B.K (isL_iff.mp c2)
      obtain ⟨s, hs, rfl⟩ := inB_of c (by omega)
      have e5 := bE_gainOf (L := L) X G R hT W hs h24
      have e6 := mE_gainOf (L := L) M RM K.2.2.1 W hs h24
      exact jO_same J (r := nI (gn_ (lH A 6) (T s))) (by simp (disch := omega) only [fX0_gain, nL, nI_add, nJ_mul, nJ_div, nJ_mod, nI_leI, nI_ltI, nI_eq, Option.bind_some, Option.bind_none, Nat.one_ne_zero, Nat.zero_ne_one, Nat.zero_add, Nat.add_zero, if_true, if_false, not_true_eq_false, not_false_eq_true, e1, c, c2, Bool.true_and, dx X, gx_I X, gx2 X hl, dl G, gl_I G, gl9 G, xl9 G, gl10 G, xl10 G, gl11 G, xl11 G, gl12 G, xl12 G, gl13 G, xl13 G, gl14 G, xl14 G, gl15 G, xl15 G, gl16 G, xl16 G, gl17 G, xl17 G, gl18 G, xl18 G, gl19 G, xl19 G, gl20 G, xl20 G, gl21 G, xl21 G, R.f0, R.f1, R.f2, R.f3, R.f4, R.f5, R.f6, R.f7, R.f8, rl1 R, rl2 R, rl3 R, rl4 R, rl5 R, rl6 R, rl7 R, rl8 R, rl9 R, rl10 R, rl11 R, e5]) (by simp (disch := omega) only [fX3_gain, nL, nI_add, nJ_mul, nJ_div, nJ_mod, nI_leI, nI_ltI, nI_eq, Option.bind_some, Option.bind_none, Nat.one_ne_zero, Nat.zero_ne_one, Nat.zero_add, Nat.add_zero, if_true, if_false, not_true_eq_false, not_false_eq_true, e2, c, e3, c2, dm M, e6])
theorem J_follows (J : jK q I L A T sM) (v w : Int32) : jO q I L T sM (fX0_follows 64 v w) (fX3_follows 136 v w) := by
  obtain ⟨K, B, V⟩ := id J
  obtain ⟨M, RM, -⟩ := id K
  obtain ⟨X, hT, -, -, W, h24, -⟩ := id B
  have h8 : 2 ^ sM ≤ 2 ^ 24 := Nat.pow_le_pow_right (by decide) h24
  have e1 := bL_isSet B v
  have e2 := kE_isSet (L := L) K v
  have e3 := bL_isSaying B w
  have e4 := kE_isSaying (L := L) K w
  cases c : (isL A && inB v (2 ^ sM))
  · exact jO_same J (r := -(nI 1)) (by simp (disch := omega) only [fX0_follows, fX0_follows_L16, nL, nI_add, nJ_mul, nJ_div, nJ_mod, nI_leI, nI_ltI, nI_eq, Option.bind_some, Option.bind_none, Nat.one_ne_zero, Nat.zero_ne_one, Nat.zero_add, Nat.add_zero, if_true, if_false, not_true_eq_false, not_false_eq_true, dx X, e1, c, Bool.false_eq_true]) (by simp (disch := omega) only [fX3_follows, nL, nI_add, nJ_mul, nJ_div, nJ_mod, nI_leI, nI_ltI, nI_eq, Option.bind_some, Option.bind_none, Nat.one_ne_zero, Nat.zero_ne_one, Nat.zero_add, Nat.add_zero, if_true, if_false, not_true_eq_false, not_false_eq_true, dm M, e2, c, Bool.false_eq_true])
  · cases c2 : inB w sM
    · exact jO_same J (r := -(nI 1)) (by simp (disch := omega) only [fX0_follows, fX0_follows_L16, nL, nI_add, nJ_mul, nJ_div, nJ_mod, nI_leI, nI_ltI, nI_eq, Option.bind_some, Option.bind_none, Nat.one_ne_zero, Nat.zero_ne_one, Nat.zero_add, Nat.add_zero, if_true, if_false, not_true_eq_false, not_false_eq_true, dx X, e1, c, e3, c2, Bool.false_eq_true]) (by simp (disch := omega) only [fX3_follows, nL, nI_add, nJ_mul, nJ_div, nJ_mod, nI_leI, nI_ltI, nI_eq, Option.bind_some, Option.bind_none, Nat.one_ne_zero, Nat.zero_ne_one, Nat.zero_add, Nat.add_zero, if_true, if_false, not_true_eq_false, not_false_eq_true, dm M, e2, c, e4, c2, Bool.false_eq_true])
    · have c5 := c
      rw [Bool.and_eq_true] at c5
      obtain ⟨KB, hl⟩ := B.K (isL_iff.mp c5.1)
      obtain ⟨s, hs, rfl⟩ := inB_of c2 (by omega)
      obtain ⟨p, hp, rfl⟩ := inB_of c5.2 (by omega)
      have e5 := bK_follows (L := L) KB hl (set := p) hs
      have e6 := kE_doesFollow (L := L) K (set := p) hs
      refine jO_same J (r := nI (if a_fol A T sM p s then 1 else 0)) ?_ ?_
      · cases c4 : a_fol A T sM p s
        · simp (disch := omega) only [fX0_follows, fX0_follows_L16, nL, nI_add, nJ_mul, nJ_div, nJ_mod, nI_leI, nI_ltI, nI_eq, Option.bind_some, Option.bind_none, Nat.one_ne_zero, Nat.zero_ne_one, Nat.zero_add, Nat.add_zero, if_true, if_false, not_true_eq_false, not_false_eq_true, dx X, e1, c, e3, c2, e5, c4, Bool.false_eq_true]
        · simp (disch := omega) only [fX0_follows, fX0_follows_L16, nL, nI_add, nJ_mul, nJ_div, nJ_mod, nI_leI, nI_ltI, nI_eq, Option.bind_some, Option.bind_none, Nat.one_ne_zero, Nat.zero_ne_one, Nat.zero_add, Nat.add_zero, if_true, if_false, not_true_eq_false, not_false_eq_true, dx X, e1, c, e3, c2, e5, c4]
      · cases c4 : a_fol A T sM p s
        · simp (disch := omega) only [fX3_follows, nL, nI_add, nJ_mul, nJ_div, nJ_mod, nI_leI, nI_ltI, nI_eq, Option.bind_some, Option.bind_none, Nat.one_ne_zero, Nat.zero_ne_one, Nat.zero_add, Nat.add_zero, if_true, if_false, not_true_eq_false, not_false_eq_true, dm M, e2, c, e4, c2, e6, c4, Bool.false_eq_true]
        · simp (disch := omega) only [fX3_follows, nL, nI_add, nJ_mul, nJ_div, nJ_mod, nI_leI, nI_ltI, nI_eq, Option.bind_some, Option.bind_none, Nat.one_ne_zero, Nat.zero_ne_one, Nat.zero_add, Nat.add_zero, if_true, if_false, not_true_eq_false, not_false_eq_true, dm M, e2, c, e4, c2, e6, c4]
end JA
