/-! P2 JD: both answer: looks, trials, seeds, counts -/
theorem lW_see {A : ld_t} {who f : Nat} (W : lW A) : lW (a_see A who f) := lW_held W fun hh w hb => W.2.2.2.2.2 who w hh (by simp only [Bool.and_eq_true] at hb; exact hb.1)
def a_tr0 (A : ld_t) : ld_t := lSet A 1 7 0
def a_tr (A : ld_t) (s b : Nat) : ld_t := (fun f i => if f = 1 ∧ i = 7 then lA A 1 7 + 1 else if f = 13 ∧ i = lA A 1 7 then s else if f = 14 ∧ i = lA A 1 7 then b else A.1 f i, A.2)
theorem a_tr_A {A : ld_t} {s b f i : Nat} (h : ¬ (f = 1 ∧ i = 7)) (h2 : f ≠ 13) (h3 : f ≠ 14) : lA (a_tr A s b) f i = lA A f i := by
  show (if f = 1 ∧ i = 7 then _ else if f = 13 ∧ i = lA A 1 7 then s else if f = 14 ∧ i = lA A 1 7 then b else lA A f i) = _
  rw [if_neg h, if_neg (fun z => h2 z.1), if_neg (fun z => h3 z.1)]
theorem a_tr0_A {A : ld_t} {f i : Nat} (h : ¬ (f = 1 ∧ i = 7)) : lA (a_tr0 A) f i = lA A f i := if_neg h
/-- lands that differ in trials alone -/
theorem lW_trc {A A' : ld_t} (W : lW A) (e : ∀ f i, ¬ (f = 1 ∧ i = 7) → f ≠ 13 → f ≠ 14 → lA A' f i = lA A f i) (h7 : lA A' 1 7 ≤ 10) (hH : lH A' = lH A) : lW A' := by
  have e1 : ∀ i, i ≠ 7 → lA A' 1 i = lA A 1 i := fun i hi => e 1 i (by omega) (by omega) (by omega)
  have e2 : ∀ f, f ≠ 1 → f ≠ 13 → f ≠ 14 → ∀ i, lA A' f i = lA A f i := fun f h1 h2 h3 i => e f i (by omega) h2 h3
  unfold lW
  rw [e1 0 (by decide), e1 1 (by decide), e1 2 (by decide), e1 3 (by decide), e1 4 (by decide), e1 5 (by decide), e1 6 (by decide), hH]
  simp only [e2 0 (by decide) (by decide) (by decide), e2 2 (by decide) (by decide) (by decide), e2 3 (by decide) (by decide) (by decide), e2 4 (by decide) (by decide) (by decide), e2 5 (by decide) (by decide) (by decide), e2 6 (by decide) (by decide) (by decide), e2 7 (by decide) (by decide) (by decide), e2 8 (by decide) (by decide) (by decide), e2 9 (by decide) (by decide) (by decide), e2 10 (by decide) (by decide) (by decide), e2 11 (by decide) (by decide) (by decide), e2 12 (by decide) (by decide) (by decide)]
  obtain ⟨⟨w0, w1, w2, w3, w4, w5, w6, w7, w8⟩, w⟩ := W
  exact ⟨⟨w0, w1, w2, w3, w4, w5, w6, h7, w8⟩, w⟩
theorem mlR_trc {I I' : iF} {A A' : ld_t} (R : mlR (mlL I) A) (hI : ∀ a, a ≠ 137 → a ≠ 149 → a ≠ 150 → I' a = I a) (h1 : ∀ j, j < 9 → I' 137 j = nI (lA A' 1 j)) (e : ∀ f i, ¬ (f = 1 ∧ i = 7) → f ≠ 13 → f ≠ 14 → lA A' f i = lA A f i) (h13 : ∀ k, k < lA A' 1 7 → I' 149 k = nI (lA A' 13 k) ∧ I' 150 k = nI (lA A' 14 k)) (hH : lH A' = lH A) (hP : lP A' = lP A) : mlR (mlL I') A' := by
  have e1 : ∀ i, i ≠ 7 → lA A' 1 i = lA A 1 i := fun i hi => e 1 i (by omega) (by omega) (by omega)
  refine mlR_mk ?_ (fun j hj => ?_) (fun f f1 f2 p hp => ?_) (fun p hp => ?_) (fun f f1 f2 p hp => ?_) (fun f f1 f2 p hp => ?_) (fun f f1 f2 p hp => ?_) (fun who hq => ?_) (fun k hk => ?_)
  · rw [mlL_0, hI _ (by decide) (by decide) (by decide), e 0 0 (by decide) (by decide) (by decide)]; exact R.g0
  · rw [mlL_f (by omega) (by omega)]; exact h1 j hj
  · rw [e1 2 (by decide)] at hp
    rw [mlL_f (by omega) (by omega), hI _ (by omega) (by omega) (by omega), e f p (by omega) (by omega) (by omega), ← mlL_f (I := I) (f := f) (by omega) (by omega)]; exact R.g2 f1 f2 hp
  · rw [e1 3 (by decide)] at hp
    rw [mlL_f (by omega) (by omega), hI _ (by omega) (by omega) (by omega), e 7 p (by omega) (by omega) (by omega)]; exact R.g7 hp
  · rw [e1 4 (by decide)] at hp
    rw [mlL_f (by omega) (by omega), hI _ (by omega) (by omega) (by omega), e f p (by omega) (by omega) (by omega), ← mlL_f (I := I) (f := f) (by omega) (by omega)]; exact R.g8 f1 f2 hp
  · rw [e1 5 (by decide)] at hp
    rw [mlL_f (by omega) (by omega), hI _ (by omega) (by omega) (by omega), e f p (by omega) (by omega) (by omega), ← mlL_f (I := I) (f := f) (by omega) (by omega)]; exact R.g11 f1 f2 hp
  · rw [mlL_f (by omega) (by omega)]
    have : f = 13 ∨ f = 14 := by omega
    rcases this with rfl | rfl
    · exact (h13 p hp).1
    · exact (h13 p hp).2
  · rw [e1 2 (by decide)] at hq
    rw [mlL_15, hI _ (by decide) (by decide) (by decide), hH]; exact R.2.1 who hq
  · rw [e 0 0 (by decide) (by decide) (by decide)] at hk
    rw [mlL_57, hI _ (by decide) (by decide) (by decide), hP, e1 2 (by decide)]; exact R.2.2 k hk
theorem glR_trc {I I' : iF} {L : lF_} {g : Nat} {A A' : ld_t} (R : glR I L g A) (hI : ∀ a, a ≠ g → a ≠ g + 10 → I' a = I a) (hg : ∀ j, j ≠ 8 → I' g j = I g j) (h8 : I' g 8 = nI (lA A' 1 7)) (e : ∀ f i, ¬ (f = 1 ∧ i = 7) → f ≠ 13 → f ≠ 14 → lA A' f i = lA A f i) (h13 : ∀ k, k < lA A' 1 7 → I' (g + 10) (2 * k) = nI (lA A' 13 k) ∧ I' (g + 10) (2 * k + 1) = nI (lA A' 14 k)) (hH : lH A' = lH A) (hP : lP A' = lP A) : glR I' L g A' := by
  have e1 : ∀ i, i ≠ 7 → lA A' 1 i = lA A 1 i := fun i hi => e 1 i (by omega) (by omega) (by omega)
  have e2 : ∀ f, f ≠ 1 → f ≠ 13 → f ≠ 14 → ∀ i, lA A' f i = lA A f i := fun f h1 h2 h3 i => e f i (by omega) h2 h3
  have ef : a_far A' = a_far A := a_far_eq (e1 4 (by decide)) (fun f k h1 h2 => e2 f (by omega) (by omega) (by omega) k)
  obtain ⟨⟨r0, r1, r2, r3, r4, r5, r6, r7, r8⟩, rp, rs, rf, rt, -, rh, rq⟩ := R
  unfold glR
  rw [ef, hH, hP, h8, hg 0 (by decide), hg 1 (by decide), hg 2 (by decide), hg 3 (by decide), hg 4 (by decide), hg 5 (by decide), hg 6 (by decide), hg 7 (by decide), hI (g + 1) (by omega) (by omega), hI (g + 2) (by omega) (by omega), hI (g + 3) (by omega) (by omega), hI (g + 4) (by omega) (by omega), hI (g + 5) (by omega) (by omega), hI (g + 6) (by omega) (by omega), hI (g + 7) (by omega) (by omega), hI (g + 8) (by omega) (by omega), hI (g + 9) (by omega) (by omega), hI (g + 13) (by omega) (by omega)]
  rw [e1 0 (by decide), e1 1 (by decide), e1 2 (by decide), e1 3 (by decide), e1 4 (by decide), e1 5 (by decide), e1 6 (by decide)]
  simp only [e2 0 (by decide) (by decide) (by decide), e2 2 (by decide) (by decide) (by decide), e2 3 (by decide) (by decide) (by decide), e2 4 (by decide) (by decide) (by decide), e2 5 (by decide) (by decide) (by decide), e2 6 (by decide) (by decide) (by decide), e2 7 (by decide) (by decide) (by decide), e2 11 (by decide) (by decide) (by decide), e2 12 (by decide) (by decide) (by decide)]
  exact ⟨⟨r0, r1, r2, r3, r4, r5, r6, r7, trivial⟩, rp, rs, rf, rt, h13, rh, rq⟩
section JD
variable {q : ph_t} {I : iF} {L : lF_} {A : ld_t} {T : Nat → Nat → Bool} {sM : Nat}
theorem J_look (J : jK q I L A T sM) (v w : Int32) : jO q I L T sM (fX0_look 64 v w) (fX3_look 136 v w) := by
  obtain ⟨K, B, V⟩ := id J
  obtain ⟨M, RM, -⟩ := id K
  have X := B.1
  have W := B.W
  have w2 := W.1.2.2.1
  have w3 := W.1.2.2.2.1
  have w0 := W.1.1
  have x1 := bL_isPerson B v
  have x2 := bL_isPlace B w
  have m1 := kE_isPerson (L := L) K v
  have m2 := kE_isPlace (L := L) K w
  cases c1 : inB v (lA A 1 2)
  · exact jO_same J (r := -(nI 1)) (by simp (disch := omega) only [fX0_look, nL, nI_add, nJ_mul, nJ_div, nJ_mod, nI_leI, nI_ltI, nI_eq, Option.bind_some, Option.bind_none, Nat.one_ne_zero, Nat.zero_ne_one, Nat.zero_add, Nat.add_zero, if_true, if_false, not_true_eq_false, not_false_eq_true, dx X, x1, c1, Bool.false_eq_true]) (by simp (disch := omega) only [fX3_look, nL, nI_add, nJ_mul, nJ_div, nJ_mod, nI_leI, nI_ltI, nI_eq, Option.bind_some, Option.bind_none, Nat.one_ne_zero, Nat.zero_ne_one, Nat.zero_add, Nat.add_zero, if_true, if_false, not_true_eq_false, not_false_eq_true, dm M, m1, c1, Bool.false_eq_true])
  · cases c2 : inB w (lA A 1 3)
    · exact jO_same J (r := -(nI 1)) (by simp (disch := omega) only [fX0_look, nL, nI_add, nJ_mul, nJ_div, nJ_mod, nI_leI, nI_ltI, nI_eq, Option.bind_some, Option.bind_none, Nat.one_ne_zero, Nat.zero_ne_one, Nat.zero_add, Nat.add_zero, if_true, if_false, not_true_eq_false, not_false_eq_true, dx X, x1, c1, x2, c2, Bool.false_eq_true]) (by simp (disch := omega) only [fX3_look, nL, nI_add, nJ_mul, nJ_div, nJ_mod, nI_leI, nI_ltI, nI_eq, Option.bind_some, Option.bind_none, Nat.one_ne_zero, Nat.zero_ne_one, Nat.zero_add, Nat.add_zero, if_true, if_false, not_true_eq_false, not_false_eq_true, dm M, m1, c1, m2, c2, Bool.false_eq_true])
    · obtain ⟨p, hp, rfl⟩ := inB_of c1 (by omega)
      obtain ⟨k, hk, rfl⟩ := inB_of c2 (by omega)
      have h0 := B.pos (j := 2) (by decide) (by omega)
      obtain ⟨KB, hl⟩ := B.K h0
      obtain ⟨-, G, R, -⟩ := id KB
      obtain ⟨v1, v2, v3, v4, v5, v6⟩ := W.2.1 p hp
      have w7 := W.2.2.1 k hk
      by_cases c3 : lA A 6 p = 1
      · exact jO_same J (r := -(nI 1)) (by simp (disch := omega) only [fX0_look, nL, nI_add, nJ_mul, nJ_div, nJ_mod, nI_leI, nI_ltI, nI_eq, Option.bind_some, Option.bind_none, Nat.one_ne_zero, Nat.zero_ne_one, Nat.zero_add, Nat.add_zero, if_true, if_false, not_true_eq_false, not_false_eq_true, dx X, x1, c1, x2, c2, gx2 X hl, gl13 G, xl13 G, rl5 R, c3]) (by simp (disch := omega) only [fX3_look, nL, nI_add, nJ_mul, nJ_div, nJ_mod, nI_leI, nI_ltI, nI_eq, Option.bind_some, Option.bind_none, Nat.one_ne_zero, Nat.zero_ne_one, Nat.zero_add, Nat.add_zero, if_true, if_false, not_true_eq_false, not_false_eq_true, dm M, m1, c1, m2, c2, gm6 M, xm142 M, rm6 RM, c3])
      · have x5 := rl7 R (a := 0) (by omega) hk
        rw [Nat.mul_zero, Nat.zero_add] at x5
        have hg := (far_ok W).1 k
        obtain ⟨d, hd⟩ : ∃ d, a_far A k = d := ⟨_, rfl⟩
        rw [hd] at hg x5
        by_cases c4 : lA A 5 p + 2 * d ≤ 24
        · -- the act
          rw [Nat.min_eq_left (by omega)] at x5
          have hA1 : ∀ {f i : Nat}, ¬ (f = 0 ∧ i = 0) → lA (a_keep A) f i = lA A f i := a_keep_A
          obtain ⟨I1, L1, a1, a2, a3, a4⟩ := bK_keepsAct (L := L) KB hl
          have G1 := a4.2.1
          have R1 := a4.2.2.1
          have y5 := rl7 R1 (a := 0) (by show 0 < lA A 1 3; omega) hk
          rw [Nat.mul_zero, Nat.zero_add, a_far_eq (A := A) (A' := a_keep A) rfl (fun _ _ _ _ => hA1 (by omega)), hd, Nat.min_eq_left (by omega)] at y5
          have KB2 : bK q 66 (ph_u I1 70 p (nI (lA A 5 p + 2 * d))) L1 (lSet (a_keep A) 5 p (lA A 5 p + 2 * d)) T sM := a4.next (frG.rf.up (by omega)) frH.rf (glR_hrs R1) (lW_set5 (lW_keep W) c4)
          have hf : lA (lSet (a_keep A) 5 p (lA A 5 p + 2 * d)) 1 0 = lA A 1 0 := by rw [lSet_A, if_neg (by omega)]; rfl
          have hs1 : lA (lSet (a_keep A) 5 p (lA A 5 p + 2 * d)) 1 1 = lA A 1 1 := by rw [lSet_A, if_neg (by omega)]; rfl
          have hp2 : lA (lSet (a_keep A) 5 p (lA A 5 p + 2 * d)) 1 2 = lA A 1 2 := by rw [lSet_A, if_neg (by omega)]; rfl
          have hk3 : lA (lSet (a_keep A) 5 p (lA A 5 p + 2 * d)) 1 3 = lA A 1 3 := by rw [lSet_A, if_neg (by omega)]; rfl
          have h7 : lA (lSet (a_keep A) 5 p (lA A 5 p + 2 * d)) 7 k = lA A 7 k := by rw [lSet_A, if_neg (by omega)]; rfl
          obtain ⟨L2, b1, b2, b3⟩ := bK_see (L := L1) KB2 (who := p) (f := lA A 7 k) (by rw [hp2]; exact Or.inl hp) (by rw [hf]; exact w7)
          have fX : frX I (ph_u I1 70 p (nI (lA A 5 p + 2 * d))) := (a2.X (Or.inl rfl)).up (by omega)
          have fL : frXL L L2 := (a3.X (Or.inl rfl)).tr (b2.fr.X (Or.inl rfl))
          have g70 : I1 70 p = nI (lA A 5 p) := rl4 R1 hp
          have g72 : I1 72 k = nI (lA A 7 k) := rl6 R1 hk
          have g66 : I1 66 1 = nI (lA A 1 1) := R1.f1
          have hx : ph_u I1 70 p (nI (lA A 5 p + 2 * d)) 64 7 = nI (lA A 1 8) := by rw [pu_ne (by decide), a2 64 (by omega)]; exact B.2.2.2.1
          -- the model
          have K2 := K.X fX
          have g72' : ph_u I1 70 p (nI (lA A 5 p + 2 * d)) 72 k = nI (lA A 7 k) := by rw [pu_ne (by decide)]; exact g72
          have g66' : ph_u I1 70 p (nI (lA A 5 p + 2 * d)) 66 1 = nI (lA A 1 1) := by rw [pu_ne (by decide)]; exact g66
          generalize hJ1 : ph_u I1 70 p (nI (lA A 5 p + 2 * d)) = J1 at fX K2 b1 b3 hx g72' g66'
          have m1 := kE_isPerson (L := L2) K2 (nI p)
          have m2 := kE_isPlace (L := L2) K2 (nI k)
          obtain ⟨I3, d1, d2⟩ := kE_laysWays (L := L2) K2
          have K3 := d2.K K2
          obtain ⟨I4, d3, d4, d5, d6⟩ := kE_keepsAct (L := L2) K3
          have f3 := mE_wayOf (L := L2) M (a := 0) (b := k) (by omega) (by omega) d2.2.1 d2.2.2
          have e178 : I4 178 = I3 178 := d4 178 (by decide) (by decide)
          have f4 := mE_wayOf (I := I4) (L := L2) M (a := 0) (b := k) (D := a_far A) (by omega) (by omega) (by rw [e178]; exact d2.2.1) d2.2.2
          rw [Nat.mul_zero, Nat.zero_add, hd] at f3 f4
          have h141 : I4 141 p = nI (lA A 5 p) := rm5 d6.2.1 hp
          have R5 : mlR (mlL (ph_u I4 141 p (nI (lA A 5 p + 2 * d)))) (lSet (a_keep A) 5 p (lA A 5 p + 2 * d)) := mlR_set (f := 5) d6.2.1 (by omega) (by omega)
          have K5 : mK q (ph_u I4 141 p (nI (lA A 5 p + 2 * d))) (lSet (a_keep A) 5 p (lA A 5 p + 2 * d)) T sM := d6.next (frL.rf.up (by omega)) R5 (lW_set5 (lW_keep W) c4)
          obtain ⟨I6, d7, d8, d9⟩ := kE_seesFact (L := L2) K5 (who := p) (f := lA A 7 k) (by rw [hp2]; exact Or.inl hp) (by rw [hf]; exact w7)
          have h143 : ∀ (U : iF) (B : ld_t), mK q U B T sM → lA B 1 3 = lA A 1 3 → lA B 7 k = lA A 7 k → U 143 k = nI (lA A 7 k) := fun U B KU e3 e7 => by rw [← e7]; exact rm7 KU.2.1 (by omega)
          have s143 := h143 _ _ K5 hk3 h7
          have t143 := h143 _ _ d9 hk3 h7
          have t137 : I6 137 1 = nI (lA A 1 1) := by rw [← hs1]; exact rm1 d9.2.1 (by decide)
          have fin : ∀ b : Bool, jO q I L T sM (fX0_look 64 (nI p) (nI k)) (fX3_look 136 (nI p) (nI k)) ∨ (lA A 1 1).testBit (lA A 7 k) ≠ b := fun b => by
            by_cases cb : (lA A 1 1).testBit (lA A 7 k) = b
            · left
              refine jO_mk (r := nI (if b then 1 else 0)) (I1 := J1) (L1 := L2) ?_ fX fL (b3.toL hl (by show 0 < lA (lSet (a_keep A) 5 p (lA A 5 p + 2 * d)) 1 0; rw [hf]; exact h0) (by rw [hx]; show _ = nI (lA (lSet (a_keep A) 5 p (lA A 5 p + 2 * d)) 1 8); rw [lSet_A, if_neg (by omega)]; rfl)) (lW2_held (lW2_set (lW2_keep W V) (by omega))) ⟨I6, L2, ?_, ((d2.tt.tr (frT_row (fun a a1 a2 => d4 a (by omega) a1) (fun j hj => d5 j (by omega) (by omega) (by omega)))).up (by omega)).tr d8.T, frTL.rf, d9⟩
              · cases b
                · simp (disch := omega) only [fX0_look, nL, nI_add, nJ_mul, nJ_div, nJ_mod, nI_leI, nI_ltI, nI_eq, Option.bind_some, Option.bind_none, Nat.one_ne_zero, Nat.zero_ne_one, Nat.zero_add, Nat.add_zero, if_true, if_false, not_true_eq_false, not_false_eq_true, dx X, x1, c1, x2, c2, gx2 X hl, dl G, gl_I G, gl13 G, xl13 G, rl5 R, c3, gl12 G, xl12 G, yl12 G, rl4 R, gl15 G, xl15 G, x5, c4, a1, g70, y5, hJ1, gl14 G, xl14 G, g72', b1, g66', bE_hasN, cb, Bool.false_eq_true]
                · simp (disch := omega) only [fX0_look, nL, nI_add, nJ_mul, nJ_div, nJ_mod, nI_leI, nI_ltI, nI_eq, Option.bind_some, Option.bind_none, Nat.one_ne_zero, Nat.zero_ne_one, Nat.zero_add, Nat.add_zero, if_true, if_false, not_true_eq_false, not_false_eq_true, dx X, x1, c1, x2, c2, gx2 X hl, dl G, gl_I G, gl13 G, xl13 G, rl5 R, c3, gl12 G, xl12 G, yl12 G, rl4 R, gl15 G, xl15 G, x5, c4, a1, g70, y5, hJ1, gl14 G, xl14 G, g72', b1, g66', bE_hasN, cb]
              · have g142 : J1 142 p = nI (lA A 6 p) := rm6 K2.2.1 hp
                have g141 : I3 141 p = nI (lA A 5 p) := rm5 K3.2.1 hp
                simp (disch := omega) only [fX3_look, nL, nI_add, nJ_mul, nJ_div, nJ_mod, nI_leI, nI_ltI, nI_eq, Option.bind_some, Option.bind_none, Nat.one_ne_zero, Nat.zero_ne_one, Nat.zero_add, Nat.add_zero, if_true, if_false, not_true_eq_false, not_false_eq_true, dm M, m1, c1, m2, c2, gm6 M, xm142 M, g142, c3, d1, f3, show ¬ d = 100000 by omega, gm5 M, xm141 M, ym141 M, g141, c4, d3, f4, h141, gm7 M, xm143 M, s143, d7, gm1 M, xm137 M, t137, t143, bn_is, bt_nI, cb]
            · exact Or.inr cb
          exact (fin _).resolve_right (fun z => z rfl)
        · refine jO_mk (r := -(nI 1)) (I1 := I) (L1 := L) ?_ frX.rf frXL.rf B V ?_
          · have hm : ¬ lA A 5 p + 2 * min d 9999 ≤ 24 := by omega
            simp (disch := omega) only [fX0_look, nL, nI_add, nJ_mul, nJ_div, nJ_mod, nI_leI, nI_ltI, nI_eq, Option.bind_some, Option.bind_none, Nat.one_ne_zero, Nat.zero_ne_one, Nat.zero_add, Nat.add_zero, if_true, if_false, not_true_eq_false, not_false_eq_true, dx X, x1, c1, x2, c2, gx2 X hl, gl13 G, xl13 G, rl5 R, c3, gl12 G, xl12 G, rl4 R, gl15 G, xl15 G, x5, hm]
          · obtain ⟨I3, d1, d2⟩ := kE_laysWays (L := L) K
            have f3 := mE_wayOf (L := L) M (a := 0) (b := k) (by omega) (by omega) d2.2.1 d2.2.2
            rw [Nat.mul_zero, Nat.zero_add, hd] at f3
            have h141 : I3 141 p = nI (lA A 5 p) := rm5 (d2.K K).2.1 hp
            refine ⟨I3, L, ?_, d2.tt, frTL.rf, d2.K K⟩
            by_cases c5 : d = 100000
            · simp (disch := omega) only [fX3_look, nL, nI_add, nJ_mul, nJ_div, nJ_mod, nI_leI, nI_ltI, nI_eq, Option.bind_some, Option.bind_none, Nat.one_ne_zero, Nat.zero_ne_one, Nat.zero_add, Nat.add_zero, if_true, if_false, not_true_eq_false, not_false_eq_true, dm M, m1, c1, m2, c2, gm6 M, xm142 M, rm6 RM, c3, d1, f3, c5]
            · simp (disch := omega) only [fX3_look, nL, nI_add, nJ_mul, nJ_div, nJ_mod, nI_leI, nI_ltI, nI_eq, Option.bind_some, Option.bind_none, Nat.one_ne_zero, Nat.zero_ne_one, Nat.zero_add, Nat.add_zero, if_true, if_false, not_true_eq_false, not_false_eq_true, dm M, m1, c1, m2, c2, gm6 M, xm142 M, rm6 RM, c3, d1, f3, c5, gm5 M, xm141 M, h141, c4]
end JD
