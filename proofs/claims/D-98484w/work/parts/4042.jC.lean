/-! P2 JC: both answer: ways, acts -/
theorem lW2_cong {A A' : ld_t} (V : lW2 A) (h6 : lA A' 1 6 ≤ 9999) (h8 : lA A' 1 8 = lA A 1 8) (h0 : lA A' 0 0 = lA A 0 0) (h10 : lA A' 1 0 = lA A 1 0) (h12 : lA A' 1 2 = lA A 1 2) (hP : lP A' = lP A) : lW2 A' := by
  unfold lW2
  rw [h8, h0, h10, h12, hP]
  exact ⟨⟨h6, V.1.2⟩, V.2⟩
theorem lW2_set {A : ld_t} {f i v : Nat} (V : lW2 A) (h : f ≠ 0 ∧ f ≠ 1) : lW2 (lSet A f i v) := by
  have e : ∀ j k, j = 0 ∨ j = 1 → lA (lSet A f i v) j k = lA A j k := fun j k hj => by rw [lSet_A, if_neg (by omega)]
  exact lW2_cong V (by rw [e 1 6 (by omega)]; exact V.1.1) (e 1 8 (by omega)) (e 0 0 (by omega)) (e 1 0 (by omega)) (e 1 2 (by omega)) rfl
theorem lW2_held {A : ld_t} {who : Nat} {B : Nat → Bool} (V : lW2 A) : lW2 (lHs A who B) := lW2_cong V V.1.1 rfl rfl rfl rfl rfl
theorem lW2_cr {A : ld_t} {T : Nat → Nat → Bool} {p s : Nat} (V : lW2 A) : lW2 (a_cr A T p s).2 := by
  unfold a_cr
  split
  · exact lW2_set V (by omega)
  · split
    · exact lW2_set V (by omega)
    · split
      · exact lW2_set (lW2_held V) (by omega)
      · exact lW2_held V
theorem a_turns_P {A : ld_t} : ∀ n, lP (a_turns A n) = lP A
  | 0 => rfl
  | n + 1 => by
    show lP (a_turn (a_turns A n) n) = _
    refine Eq.trans ?_ (a_turns_P n)
    unfold a_turn
    split <;> rfl
theorem lW2_day {A : ld_t} (V : lW2 A) (h : lA A 1 6 < 9999) : lW2 (a_day A) := by
  have e : ∀ f i, ¬ (f = 1 ∧ i = 1) → lA (a_day A) f i = lA (a_day0 A) f i := fun f i h => a_turns_A h _
  refine lW2_cong V ?_ (e 1 8 (by omega)) (e 0 0 (by omega)) (e 1 0 (by omega)) (e 1 2 (by omega)) (a_turns_P _)
  rw [e 1 6 (by omega)]
  show lA A 1 6 + 1 ≤ 9999
  omega
theorem cr_st {A : ld_t} {T : Nat → Nat → Bool} {p s f i : Nat} (h : f = 0 ∨ f = 1) : lA (a_cr A T p s).2 f i = lA A f i := by
  unfold a_cr
  split
  · exact if_neg (by omega)
  · split
    · exact if_neg (by omega)
    · split
      · exact if_neg (by omega)
      · rfl
theorem day_st {A : ld_t} {f i : Nat} (h : f = 0 ∨ (f = 1 ∧ i ≠ 1 ∧ i ≠ 6)) : lA (a_day A) f i = lA A f i := by
  have : lA (a_day A) f i = lA (a_day0 A) f i := a_turns_A (by omega) _
  rw [this]
  show (if f = 1 ∧ i = 6 then _ else if f = 5 ∨ f = 6 then 0 else _) = _
  rw [if_neg (by omega), if_neg (by omega)]
  rfl
theorem lW_set5 {A : ld_t} {p v : Nat} (W : lW A) (hv : v ≤ 24) : lW (lSet A 5 p v) := by
  obtain ⟨w1, w2, w3, w4, w5, w6⟩ := W
  refine ⟨by simpa [lSet_A] using w1, fun k hk => ?_, by simpa [lSet_A] using w3, by simpa [lSet_A] using w4, by simpa [lSet_A] using w5, by simpa [lSet_A, lSet_H] using w6⟩
  have := w2 k (by simpa [lSet_A] using hk)
  simp only [lSet_A, show ¬ (2 = 5 ∧ k = p) by omega, show ¬ (3 = 5 ∧ k = p) by omega, show ¬ (4 = 5 ∧ k = p) by omega, show ¬ (6 = 5 ∧ k = p) by omega, if_false]
  refine ⟨this.1, this.2.1, this.2.2.1, this.2.2.2.1, ?_, this.2.2.2.2.2⟩
  split
  · exact hv
  · exact this.2.2.2.2.1
theorem glR_hrs {I : iF} {L : lF_} {g : Nat} {A : ld_t} (R : glR I L g A) {p v : Nat} : glR (ph_u I (g + 4) p (nI v)) L g (lSet A 5 p v) := by
  refine glR_SD (glS_cong R.S (fun j _ _ => by rw [pu_ne (by omega)]) (fun a ha => by rw [pu_ne (by omega)]) rfl (fun f i h => by rw [lSet_A, if_neg (fun z => h.2.1 z.1)]) rfl) ⟨?_, ?_, fun k hk => ?_, R.D.2.2.2⟩
  · rw [pu_ne (by omega)]; exact R.f1
  · rw [pu_ne (by omega)]; exact R.f6
  · have hk : k < lA A 1 2 := by simpa [lSet_A] using hk
    rw [pu_ne (show g + 1 ≠ g + 4 by omega), pu_ne (show g + 5 ≠ g + 4 by omega), pu_at, lSet_A, if_neg (show ¬ (2 = 5 ∧ k = p) by omega), lSet_A, lSet_A, if_neg (show ¬ (6 = 5 ∧ k = p) by omega)]
    refine ⟨R.p1 hk, ?_, R.p5 hk⟩
    by_cases c : k = p
    · rw [if_pos c, if_pos ⟨rfl, c⟩]
    · rw [if_neg c, if_neg (fun z => c z.2)]; exact R.p4 hk
section JC
variable {q : ph_t} {I : iF} {L : lF_} {A : ld_t} {T : Nat → Nat → Bool} {sM : Nat}
theorem J_way (J : jK q I L A T sM) (v w : Int32) : jO q I L T sM (fX0_way 64 v w) (fX3_way 136 v w) := by
  obtain ⟨K, B, V⟩ := id J
  obtain ⟨M, RM, -⟩ := id K
  have X := B.1
  have W := B.W
  have w3 := W.1.2.2.2.1
  have e1 := bL_isPlace B v
  have e1' := bL_isPlace B w
  have e2 := kE_isPlace (L := L) K v
  have e2' := kE_isPlace (L := L) K w
  cases c : inB v (lA A 1 3)
  · exact jO_same J (r := -(nI 1)) (by simp (disch := omega) only [fX0_way, nL, nI_add, nJ_mul, nJ_div, nJ_mod, nI_leI, nI_ltI, nI_eq, Option.bind_some, Option.bind_none, Nat.one_ne_zero, Nat.zero_ne_one, Nat.zero_add, Nat.add_zero, if_true, if_false, not_true_eq_false, not_false_eq_true, dx X, e1, c, Bool.false_eq_true]) (by simp (disch := omega) only [fX3_way, nL, nI_add, nJ_mul, nJ_div, nJ_mod, nI_leI, nI_ltI, nI_eq, Option.bind_some, Option.bind_none, Nat.one_ne_zero, Nat.zero_ne_one, Nat.zero_add, Nat.add_zero, if_true, if_false, not_true_eq_false, not_false_eq_true, dm M, e2, c, Bool.false_eq_true])
  · cases c' : inB w (lA A 1 3)
    · exact jO_same J (r := -(nI 1)) (by simp (disch := omega) only [fX0_way, nL, nI_add, nJ_mul, nJ_div, nJ_mod, nI_leI, nI_ltI, nI_eq, Option.bind_some, Option.bind_none, Nat.one_ne_zero, Nat.zero_ne_one, Nat.zero_add, Nat.add_zero, if_true, if_false, not_true_eq_false, not_false_eq_true, dx X, e1, c, e1', c', Bool.false_eq_true]) (by simp (disch := omega) only [fX3_way, nL, nI_add, nJ_mul, nJ_div, nJ_mod, nI_leI, nI_ltI, nI_eq, Option.bind_some, Option.bind_none, Nat.one_ne_zero, Nat.zero_ne_one, Nat.zero_add, Nat.add_zero, if_true, if_false, not_true_eq_false, not_false_eq_true, dm M, e2, c, e2', c', Bool.false_eq_true])
    · obtain ⟨a, ha, rfl⟩ := inB_of c (by omega)
      obtain ⟨b, hb, rfl⟩ := inB_of c' (by omega)
      obtain ⟨⟨-, G, R, -⟩, hl⟩ := B.K (B.pos (j := 3) (by decide) (by omega))
      obtain ⟨I2, e3, f2⟩ := kE_laysWays (L := L) K
      have e4 := mE_wayOf (L := L) M (a := a) (b := b) (by omega) (by omega) f2.2.1 f2.2.2
      have hg := (far_ok W).1 (6 * a + b)
      have e5 := rl7 R ha hb
      generalize a_far A (6 * a + b) = d at e4 e5 hg
      refine jO_mk (r := if d = 100000 then -(nI 2) else nI d) (I1 := I) (L1 := L) ?_ frX.rf frXL.rf B V ⟨I2, L, ?_, f2.tt, frTL.rf, f2.K K⟩
      · by_cases cd : d = 100000
        · subst cd
          have e5 : I 73 (6 * a + b) = nI 9999 := e5
          simp (disch := omega) only [fX0_way, nL, nI_add, nJ_mul, nJ_div, nJ_mod, nI_leI, nI_ltI, nI_eq, Option.bind_some, Option.bind_none, Nat.one_ne_zero, Nat.zero_ne_one, Nat.zero_add, Nat.add_zero, if_true, if_false, not_true_eq_false, not_false_eq_true, dx X, e1, c, e1', c', gx2 X hl, gl15 G, xl15 G, e5, Nat.lt_irrefl]
        · rw [Nat.min_eq_left (by omega)] at e5
          simp (disch := omega) only [fX0_way, nL, nI_add, nJ_mul, nJ_div, nJ_mod, nI_leI, nI_ltI, nI_eq, Option.bind_some, Option.bind_none, Nat.one_ne_zero, Nat.zero_ne_one, Nat.zero_add, Nat.add_zero, if_true, if_false, not_true_eq_false, not_false_eq_true, dx X, e1, c, e1', c', gx2 X hl, gl15 G, xl15 G, e5, show d < 9999 by omega, cd]
      · by_cases cd : d = 100000
        · subst cd
          simp (disch := omega) only [fX3_way, nL, nI_add, nJ_mul, nJ_div, nJ_mod, nI_leI, nI_ltI, nI_eq, Option.bind_some, Option.bind_none, Nat.one_ne_zero, Nat.zero_ne_one, Nat.zero_add, Nat.add_zero, if_true, if_false, not_true_eq_false, not_false_eq_true, dm M, e2, c, e2', c', e3, e4]
        · simp (disch := omega) only [fX3_way, nL, nI_add, nJ_mul, nJ_div, nJ_mod, nI_leI, nI_ltI, nI_eq, Option.bind_some, Option.bind_none, Nat.one_ne_zero, Nat.zero_ne_one, Nat.zero_add, Nat.add_zero, if_true, if_false, not_true_eq_false, not_false_eq_true, dm M, e2, c, e2', c', e3, e4, cd]
theorem J_cross (J : jK q I L A T sM) (v w : Int32) : jO q I L T sM (fX0_cross 64 v w) (fX3_cross 136 v w) := by
  obtain ⟨K, B, V⟩ := id J
  obtain ⟨M, RM, -⟩ := id K
  have X := B.1
  have W := B.W
  have h24 := K.2.2.2.2.2
  have w2 := W.1.2.2.1
  have e1 := bL_isPerson B v
  have e1' := bL_isSaying B w
  have e2 := kE_isPerson (L := L) K v
  have e2' := kE_isSaying (L := L) K w
  cases c : inB v (lA A 1 2)
  · exact jO_same J (r := -(nI 1)) (by simp (disch := omega) only [fX0_cross, nL, nI_add, nJ_mul, nJ_div, nJ_mod, nI_leI, nI_ltI, nI_eq, Option.bind_some, Option.bind_none, Nat.one_ne_zero, Nat.zero_ne_one, Nat.zero_add, Nat.add_zero, if_true, if_false, not_true_eq_false, not_false_eq_true, dx X, e1, c, Bool.false_eq_true]) (by simp (disch := omega) only [fX3_cross, nL, nI_add, nJ_mul, nJ_div, nJ_mod, nI_leI, nI_ltI, nI_eq, Option.bind_some, Option.bind_none, Nat.one_ne_zero, Nat.zero_ne_one, Nat.zero_add, Nat.add_zero, if_true, if_false, not_true_eq_false, not_false_eq_true, dm M, e2, c, Bool.false_eq_true])
  · cases c' : inB w sM
    · exact jO_same J (r := -(nI 1)) (by simp (disch := omega) only [fX0_cross, nL, nI_add, nJ_mul, nJ_div, nJ_mod, nI_leI, nI_ltI, nI_eq, Option.bind_some, Option.bind_none, Nat.one_ne_zero, Nat.zero_ne_one, Nat.zero_add, Nat.add_zero, if_true, if_false, not_true_eq_false, not_false_eq_true, dx X, e1, c, e1', c', Bool.false_eq_true]) (by simp (disch := omega) only [fX3_cross, nL, nI_add, nJ_mul, nJ_div, nJ_mod, nI_leI, nI_ltI, nI_eq, Option.bind_some, Option.bind_none, Nat.one_ne_zero, Nat.zero_ne_one, Nat.zero_add, Nat.add_zero, if_true, if_false, not_true_eq_false, not_false_eq_true, dm M, e2, c, e2', c', Bool.false_eq_true])
    · obtain ⟨p, hp, rfl⟩ := inB_of c (by omega)
      obtain ⟨s, hs, rfl⟩ := inB_of c' (by omega)
      have h0 := B.pos (j := 2) (by decide) (by omega)
      obtain ⟨KB, hl⟩ := B.K h0
      obtain ⟨-, G, R, -⟩ := id KB
      have wf := (W.2.1 p hp).2.2.2.2.2
      by_cases cf : lA A 6 p = 1
      · exact jO_same J (r := -(nI 1)) (by simp (disch := omega) only [fX0_cross, nL, nI_add, nJ_mul, nJ_div, nJ_mod, nI_leI, nI_ltI, nI_eq, Option.bind_some, Option.bind_none, Nat.one_ne_zero, Nat.zero_ne_one, Nat.zero_add, Nat.add_zero, if_true, if_false, not_true_eq_false, not_false_eq_true, dx X, e1, c, e1', c', gx2 X hl, gl13 G, xl13 G, rl5 R, cf]) (by simp (disch := omega) only [fX3_cross, nL, nI_add, nJ_mul, nJ_div, nJ_mod, nI_leI, nI_ltI, nI_eq, Option.bind_some, Option.bind_none, Nat.one_ne_zero, Nat.zero_ne_one, Nat.zero_add, Nat.add_zero, if_true, if_false, not_true_eq_false, not_false_eq_true, dm M, e2, c, e2', c', gm6 M, xm142 M, rm6 RM, cf])
      · obtain ⟨I1, L1, a1, a2, a3, a4⟩ := bK_keepsAct (L := L) KB hl
        obtain ⟨I2, L2, b1, b2, b3, b4⟩ := bK_crosses (L := L1) a4 (p := p) hp hs
        have fX : frX I I2 := (a2.X (Or.inl rfl)).tr (b2.X (Or.inl rfl))
        have fL : frXL L L2 := (a3.X (Or.inl rfl)).tr (b3.X (Or.inl rfl))
        have K2 : mK q I2 A T sM := K.X fX
        have h0' : 0 < lA (a_cr (a_keep A) T p s).2 1 0 := by rw [cr_st (by omega)]; exact h0
        have hx : I2 64 7 = nI (lA (a_cr (a_keep A) T p s).2 1 8) := by
          rw [cr_st (by omega), b2 64 (by omega), a2 64 (by omega)]
          exact B.2.2.2.1
        obtain ⟨I3, d1, d2, d3, d4⟩ := kE_keepsAct (L := L2) K2
        obtain ⟨I4, d5, d6, d7⟩ := kE_crosses (L := L2) d4 (p := p) hp hs
        have RM2 : I2 142 p = nI (lA A 6 p) := rm6 K2.2.1 hp
        have e3 := kE_isPerson (L := L2) K2 (nI p)
        have e3' := kE_isSaying (L := L2) K2 (nI s)
        refine jO_mk (r := nI (a_cr (a_keep A) T p s).1) (I1 := I2) (L1 := L2) ?_ fX fL (b4.toL hl h0' hx) (lW2_cr (lW2_keep W V)) ⟨I4, L2, ?_, (frT_row (fun a a1 a2 => d2 a (by omega) a1) (fun j hj => d3 j (by omega) (by omega) (by omega))).tr d6.T, frTL.rf, d7⟩
        · simp (disch := omega) only [fX0_cross, nL, nI_add, nJ_mul, nJ_div, nJ_mod, nI_leI, nI_ltI, nI_eq, Option.bind_some, Option.bind_none, Nat.one_ne_zero, Nat.zero_ne_one, Nat.zero_add, Nat.add_zero, if_true, if_false, not_true_eq_false, not_false_eq_true, dx X, e1, c, e1', c', gx2 X hl, gl13 G, xl13 G, rl5 R, cf, a1, b1]
        · simp (disch := omega) only [fX3_cross, nL, nI_add, nJ_mul, nJ_div, nJ_mod, nI_leI, nI_ltI, nI_eq, Option.bind_some, Option.bind_none, Nat.one_ne_zero, Nat.zero_ne_one, Nat.zero_add, Nat.add_zero, if_true, if_false, not_true_eq_false, not_false_eq_true, dm M, e3, c, e3', c', gm6 M, xm142 M, RM2, cf, d1, d5]
theorem J_tell (J : jK q I L A T sM) (u v w : Int32) : jO q I L T sM (fX0_tell 64 u v w) (fX3_tell 136 u v w) := by
  obtain ⟨K, B, V⟩ := id J
  obtain ⟨M, RM, hTM, -⟩ := id K
  have X := B.1
  have hT := B.2.1
  have W := B.W
  have h24 := K.2.2.2.2.2
  have w2 := W.1.2.2.1
  have x1 := bL_isPerson B u
  have x2 := bL_isPerson B v
  have x3 := bL_isSaying B w
  have m1 := kE_isPerson (L := L) K u
  have m2 := kE_isPerson (L := L) K v
  have m3 := kE_isSaying (L := L) K w
  cases c1 : inB u (lA A 1 2)
  · exact jO_same J (r := -(nI 1)) (by simp (disch := omega) only [fX0_tell, nL, nI_add, nJ_mul, nJ_div, nJ_mod, nI_leI, nI_ltI, nI_eq, Option.bind_some, Option.bind_none, Nat.one_ne_zero, Nat.zero_ne_one, Nat.zero_add, Nat.add_zero, if_true, if_false, not_true_eq_false, not_false_eq_true, dx X, x1, c1, Bool.false_eq_true]) (by simp (disch := omega) only [fX3_tell, nL, nI_add, nJ_mul, nJ_div, nJ_mod, nI_leI, nI_ltI, nI_eq, Option.bind_some, Option.bind_none, Nat.one_ne_zero, Nat.zero_ne_one, Nat.zero_add, Nat.add_zero, if_true, if_false, not_true_eq_false, not_false_eq_true, dm M, m1, c1, Bool.false_eq_true])
  · cases c2 : inB v (lA A 1 2)
    · exact jO_same J (r := -(nI 1)) (by simp (disch := omega) only [fX0_tell, nL, nI_add, nJ_mul, nJ_div, nJ_mod, nI_leI, nI_ltI, nI_eq, Option.bind_some, Option.bind_none, Nat.one_ne_zero, Nat.zero_ne_one, Nat.zero_add, Nat.add_zero, if_true, if_false, not_true_eq_false, not_false_eq_true, dx X, x1, c1, x2, c2, Bool.false_eq_true]) (by simp (disch := omega) only [fX3_tell, nL, nI_add, nJ_mul, nJ_div, nJ_mod, nI_leI, nI_ltI, nI_eq, Option.bind_some, Option.bind_none, Nat.one_ne_zero, Nat.zero_ne_one, Nat.zero_add, Nat.add_zero, if_true, if_false, not_true_eq_false, not_false_eq_true, dm M, m1, c1, m2, c2, Bool.false_eq_true])
    · by_cases c3 : u = v
      · subst c3
        exact jO_same J (r := -(nI 1)) (by simp (disch := omega) only [fX0_tell, nL, nI_add, nJ_mul, nJ_div, nJ_mod, nI_leI, nI_ltI, nI_eq, Option.bind_some, Option.bind_none, Nat.one_ne_zero, Nat.zero_ne_one, Nat.zero_add, Nat.add_zero, if_true, if_false, not_true_eq_false, not_false_eq_true, dx X, x1, c1]) (by simp (disch := omega) only [fX3_tell, nL, nI_add, nJ_mul, nJ_div, nJ_mod, nI_leI, nI_ltI, nI_eq, Option.bind_some, Option.bind_none, Nat.one_ne_zero, Nat.zero_ne_one, Nat.zero_add, Nat.add_zero, if_true, if_false, not_true_eq_false, not_false_eq_true, dm M, m1, c1])
      · cases c4 : inB w sM
        · exact jO_same J (r := -(nI 1)) (by simp (disch := omega) only [fX0_tell, nL, nI_add, nJ_mul, nJ_div, nJ_mod, nI_leI, nI_ltI, nI_eq, Option.bind_some, Option.bind_none, Nat.one_ne_zero, Nat.zero_ne_one, Nat.zero_add, Nat.add_zero, if_true, if_false, not_true_eq_false, not_false_eq_true, dx X, x1, c1, x2, c2, c3, x3, c4, Bool.false_eq_true]) (by simp (disch := omega) only [fX3_tell, nL, nI_add, nJ_mul, nJ_div, nJ_mod, nI_leI, nI_ltI, nI_eq, Option.bind_some, Option.bind_none, Nat.one_ne_zero, Nat.zero_ne_one, Nat.zero_add, Nat.add_zero, if_true, if_false, not_true_eq_false, not_false_eq_true, dm M, m1, c1, m2, c2, c3, m3, c4, Bool.false_eq_true])
        · obtain ⟨p, hp, rfl⟩ := inB_of c1 (by omega)
          obtain ⟨p2, hp2, rfl⟩ := inB_of c2 (by omega)
          obtain ⟨s, hs, rfl⟩ := inB_of c4 (by omega)
          have h0 := B.pos (j := 2) (by decide) (by omega)
          obtain ⟨KB, hl⟩ := B.K h0
          obtain ⟨-, G, R, -⟩ := id KB
          have wp := W.2.1 p hp
          have wp2 := W.2.1 p2 hp2
          by_cases c5 : lA A 2 p = lA A 2 p2
          · by_cases c6 : lA A 6 p = 1
            · exact jO_same J (r := -(nI 1)) (by simp (disch := omega) only [fX0_tell, nL, nI_add, nJ_mul, nJ_div, nJ_mod, nI_leI, nI_ltI, nI_eq, Option.bind_some, Option.bind_none, Nat.one_ne_zero, Nat.zero_ne_one, Nat.zero_add, Nat.add_zero, if_true, if_false, not_true_eq_false, not_false_eq_true, dx X, x1, c1, x2, c2, c3, x3, c4, gx2 X hl, gl9 G, xl9 G, rl1 R, c5, gl13 G, xl13 G, rl5 R, c6]) (by simp (disch := omega) only [fX3_tell, nL, nI_add, nJ_mul, nJ_div, nJ_mod, nI_leI, nI_ltI, nI_eq, Option.bind_some, Option.bind_none, Nat.one_ne_zero, Nat.zero_ne_one, Nat.zero_add, Nat.add_zero, if_true, if_false, not_true_eq_false, not_false_eq_true, dm M, m1, c1, m2, c2, c3, m3, c4, gm2 M, xm138 M, rm2 RM, c5, gm6 M, xm142 M, rm6 RM, c6, show 0 < 1 + lA A 6 p2 by omega])
            · by_cases c7 : lA A 6 p2 = 1
              · exact jO_same J (r := -(nI 1)) (by simp (disch := omega) only [fX0_tell, nL, nI_add, nJ_mul, nJ_div, nJ_mod, nI_leI, nI_ltI, nI_eq, Option.bind_some, Option.bind_none, Nat.one_ne_zero, Nat.zero_ne_one, Nat.zero_add, Nat.add_zero, if_true, if_false, not_true_eq_false, not_false_eq_true, dx X, x1, c1, x2, c2, c3, x3, c4, gx2 X hl, gl9 G, xl9 G, rl1 R, c5, gl13 G, xl13 G, rl5 R, c6, c7]) (by simp (disch := omega) only [fX3_tell, nL, nI_add, nJ_mul, nJ_div, nJ_mod, nI_leI, nI_ltI, nI_eq, Option.bind_some, Option.bind_none, Nat.one_ne_zero, Nat.zero_ne_one, Nat.zero_add, Nat.add_zero, if_true, if_false, not_true_eq_false, not_false_eq_true, dm M, m1, c1, m2, c2, c3, m3, c4, gm2 M, xm138 M, rm2 RM, c5, gm6 M, xm142 M, rm6 RM, c7, show 0 < lA A 6 p + 1 by omega])
              · have x4 := bE_isKnown (L := L) X G R hT W (Or.inl hp) hs h24
                cases c8 : kn_ (lH A p) (T s)
                · have m4 := mE_isKnown (L := L) M RM hTM W (Or.inl hp) hs h24
                  exact jO_same J (r := -(nI 1)) (by simp (disch := omega) only [fX0_tell, nL, nI_add, nJ_mul, nJ_div, nJ_mod, nI_leI, nI_ltI, nI_eq, Option.bind_some, Option.bind_none, Nat.one_ne_zero, Nat.zero_ne_one, Nat.zero_add, Nat.add_zero, if_true, if_false, not_true_eq_false, not_false_eq_true, dx X, x1, c1, x2, c2, c3, x3, c4, gx2 X hl, gl9 G, xl9 G, rl1 R, c5, gl13 G, xl13 G, rl5 R, c6, c7, x4, c8, Bool.false_eq_true]) (by simp (disch := omega) only [fX3_tell, nL, nI_add, nJ_mul, nJ_div, nJ_mod, nI_leI, nI_ltI, nI_eq, Option.bind_some, Option.bind_none, Nat.one_ne_zero, Nat.zero_ne_one, Nat.zero_add, Nat.add_zero, if_true, if_false, not_true_eq_false, not_false_eq_true, dm M, m1, c1, m2, c2, c3, m3, c4, gm2 M, xm138 M, rm2 RM, c5, gm6 M, xm142 M, rm6 RM, show ¬ 0 < lA A 6 p + lA A 6 p2 by omega, m4, c8, Bool.false_eq_true])
                · obtain ⟨I1, L1, a1, a2, a3, a4⟩ := bK_keepsAct (L := L) KB hl
                  obtain ⟨L2, b1, b3, b4⟩ := bK_isTold (L := L1) a4 (who := p2) (Or.inl hp2) hs
                  have b5 := bE_heldMany (L := L2) G b4.2.2.1 b4.2.2.2.2.2.1 (who := p2) (Or.inl hp2)
                  have fX : frX I I1 := a2.X (Or.inl rfl)
                  have fL : frXL L L2 := (a3.X (Or.inl rfl)).tr (b3.fr.X (Or.inl rfl))
                  have K2 : mK q I1 A T sM := K.X fX
                  have hx : I1 64 7 = nI (lA A 1 8) := by rw [a2 64 (by omega)]; exact B.2.2.2.1
                  have m4 := mE_isKnown (L := L2) M K2.2.1 K2.2.2.1 W (Or.inl hp) hs h24
                  have m1 := kE_isPerson (L := L2) K2 (nI p)
                  have m2 := kE_isPerson (L := L2) K2 (nI p2)
                  have m3 := kE_isSaying (L := L2) K2 (nI s)
                  obtain ⟨I3, d1, d2, d3, d4⟩ := kE_keepsAct (L := L2) K2
                  obtain ⟨I4, d5, d6, d7⟩ := mE_isTold (L := L2) M d4.2.1 d4.2.2.1 d4.2.2.2.2.1 (who := p2) (Or.inl hp2) hs h24
                  have K4 := d4.next d6.fr d7 b4.2.2.2.2.2.1
                  have d8 := mE_manyHeld (L := L2) M d7 (who := p2) (Or.inl hp2) b4.2.2.2.2.2.1
                  refine jO_mk (r := nI (fb_ct (lH (lHs (a_keep A) p2 (fun w => lH (a_keep A) p2 w && T s w)) p2) 256)) (I1 := I1) (L1 := L2) ?_ fX fL (b4.toL hl h0 hx) (lW2_held (lW2_keep W V)) ⟨I4, L2, ?_, (frT_row (fun a a1 a2 => d2 a (by omega) a1) (fun j hj => d3 j (by omega) (by omega) (by omega))).tr d6.fr.T, frTL.rf, K4⟩
                  · simp (disch := omega) only [fX0_tell, nL, nI_add, nJ_mul, nJ_div, nJ_mod, nI_leI, nI_ltI, nI_eq, Option.bind_some, Option.bind_none, Nat.one_ne_zero, Nat.zero_ne_one, Nat.zero_add, Nat.add_zero, if_true, if_false, not_true_eq_false, not_false_eq_true, dx X, x1, c1, x2, c2, c3, x3, c4, gx2 X hl, dl G, gl9 G, xl9 G, rl1 R, c5, gl13 G, xl13 G, rl5 R, c6, c7, x4, c8, a1, b1, b5]
                  · simp (disch := omega) only [fX3_tell, nL, nI_add, nJ_mul, nJ_div, nJ_mod, nI_leI, nI_ltI, nI_eq, Option.bind_some, Option.bind_none, Nat.one_ne_zero, Nat.zero_ne_one, Nat.zero_add, Nat.add_zero, if_true, if_false, not_true_eq_false, not_false_eq_true, dm M, m1, c1, m2, c2, c3, m3, c4, gm2 M, xm138 M, rm2 K2.2.1, c5, gm6 M, xm142 M, rm6 K2.2.1, show ¬ 0 < lA A 6 p + lA A 6 p2 by omega, m4, c8, d1, d5, d8]
          · exact jO_same J (r := -(nI 1)) (by simp (disch := omega) only [fX0_tell, nL, nI_add, nJ_mul, nJ_div, nJ_mod, nI_leI, nI_ltI, nI_eq, Option.bind_some, Option.bind_none, Nat.one_ne_zero, Nat.zero_ne_one, Nat.zero_add, Nat.add_zero, if_true, if_false, not_true_eq_false, not_false_eq_true, dx X, x1, c1, x2, c2, c3, x3, c4, gx2 X hl, gl9 G, xl9 G, rl1 R, c5]) (by simp (disch := omega) only [fX3_tell, nL, nI_add, nJ_mul, nJ_div, nJ_mod, nI_leI, nI_ltI, nI_eq, Option.bind_some, Option.bind_none, Nat.one_ne_zero, Nat.zero_ne_one, Nat.zero_add, Nat.add_zero, if_true, if_false, not_true_eq_false, not_false_eq_true, dm M, m1, c1, m2, c2, c3, m3, c4, gm2 M, xm138 M, rm2 RM, c5])
theorem J_midnight (J : jK q I L A T sM) : jO q I L T sM (fX0_midnight 64) (fX3_midnight 136) := by
  obtain ⟨K, B, V⟩ := id J
  obtain ⟨M, RM, hTM, -⟩ := id K
  have X := B.1
  have W := B.W
  have w6 := V.1.1
  have m1 := kE_isLandB (L := L) K
  cases c : isL A
  · have hn : ph_R q 64 2 = none := by
      rcases B.2.2.2.2.2.2 with ⟨h1, h2, h3⟩ | ⟨h1, h2⟩
      · rw [isL_iff.mpr h3] at c; cases c
      · exact h1
    exact jO_same J (r := -(nI 1)) (by simp (disch := omega) only [fX0_midnight, nL, nI_add, nJ_mul, nJ_div, nJ_mod, nI_leI, nI_ltI, nI_eq, Option.bind_some, Option.bind_none, Nat.one_ne_zero, Nat.zero_ne_one, Nat.zero_add, Nat.add_zero, if_true, if_false, not_true_eq_false, not_false_eq_true, gx2n X hn, nq_0]) (by simp (disch := omega) only [fX3_midnight, nL, nI_add, nJ_mul, nJ_div, nJ_mod, nI_leI, nI_ltI, nI_eq, Option.bind_some, Option.bind_none, Nat.one_ne_zero, Nat.zero_ne_one, Nat.zero_add, Nat.add_zero, if_true, if_false, not_true_eq_false, not_false_eq_true, dm M, m1, c, Bool.false_eq_true])
  · have h0 := isL_iff.mp c
    obtain ⟨KB, hl⟩ := B.K h0
    obtain ⟨-, G, R, -⟩ := id KB
    by_cases c6 : lA A 1 6 = 9999
    · exact jO_same J (r := -(nI 1)) (by simp (disch := omega) only [fX0_midnight, nL, nI_add, nJ_mul, nJ_div, nJ_mod, nI_leI, nI_ltI, nI_eq, Option.bind_some, Option.bind_none, Nat.one_ne_zero, Nat.zero_ne_one, Nat.zero_add, Nat.add_zero, if_true, if_false, not_true_eq_false, not_false_eq_true, gx2 X hl, nq_66, gl_I G, R.f6, c6]) (by simp (disch := omega) only [fX3_midnight, nL, nI_add, nJ_mul, nJ_div, nJ_mod, nI_leI, nI_ltI, nI_eq, Option.bind_some, Option.bind_none, Nat.one_ne_zero, Nat.zero_ne_one, Nat.zero_add, Nat.add_zero, if_true, if_false, not_true_eq_false, not_false_eq_true, dm M, m1, c, gm1 M, xm137 M, rm1 RM, c6])
    · obtain ⟨I1, L1, a1, a2, a3, a4⟩ := bK_keepsAct (L := L) KB hl
      obtain ⟨I2, L2, b1, b2, b3, b4⟩ := bK_dayGoes (L := L1) a4 (by rw [a_keep_A (by omega)]; omega)
      have fX : frX I I2 := (a2.X (Or.inl rfl)).tr (b2.X (Or.inl rfl))
      have fL : frXL L L2 := (a3.X (Or.inl rfl)).tr (b3.X (Or.inl rfl))
      have K2 : mK q I2 A T sM := K.X fX
      have h0' : 0 < lA (a_day (a_keep A)) 1 0 := by rw [day_st (by omega)]; exact h0
      have hx : I2 64 7 = nI (lA (a_day (a_keep A)) 1 8) := by
        rw [day_st (by omega), b2 64 (by omega), a2 64 (by omega)]
        exact B.2.2.2.1
      have hd : lA (a_day (a_keep A)) 1 6 = lA A 1 6 + 1 := a_turns_A (by omega) _
      obtain ⟨I3, d1, d2, d3, d4⟩ := kE_keepsAct (L := L2) K2
      obtain ⟨I4, d5, d6, d7⟩ := kE_dayPasses (L := L2) d4 (by rw [a_keep_A (by omega)]; omega)
      have m1 := kE_isLandB (L := L2) K2
      have g1 : I2 66 6 = nI (lA A 1 6 + 1) := by rw [← hd]; exact b4.2.2.1.f6
      have g2 : I4 137 6 = nI (lA A 1 6 + 1) := by rw [← hd]; exact rm1 d7.2.1 (by decide)
      refine jO_mk (r := nI (lA A 1 6 + 1)) (I1 := I2) (L1 := L2) ?_ fX fL (b4.toL hl h0' hx) (lW2_day (lW2_keep W V) (by rw [a_keep_A (by omega)]; omega)) ⟨I4, L2, ?_, (frT_row (fun a a1 a2 => d2 a (by omega) a1) (fun j hj => d3 j (by omega) (by omega) (by omega))).tr d6.T, frTL.rf, d7⟩
      · simp (disch := omega) only [fX0_midnight, nL, nI_add, nJ_mul, nJ_div, nJ_mod, nI_leI, nI_ltI, nI_eq, Option.bind_some, Option.bind_none, Nat.one_ne_zero, Nat.zero_ne_one, Nat.zero_add, Nat.add_zero, if_true, if_false, not_true_eq_false, not_false_eq_true, dx X, gx2 X hl, nq_66, dl G, gl_I G, R.f6, c6, a1, b1, g1]
      · simp (disch := omega) only [fX3_midnight, nL, nI_add, nJ_mul, nJ_div, nJ_mod, nI_leI, nI_ltI, nI_eq, Option.bind_some, Option.bind_none, Nat.one_ne_zero, Nat.zero_ne_one, Nat.zero_add, Nat.add_zero, if_true, if_false, not_true_eq_false, not_false_eq_true, dm M, m1, c, gm1 M, xm137 M, rm1 K2.2.1, c6, d1, d5, g2]
theorem J_undo (J : jK q I L A T sM) : jO q I L T sM (fX0_undo 64) (fX3_undo 136) := by
  obtain ⟨K, B, V⟩ := id J
  obtain ⟨M, RM, hTM, -⟩ := id K
  have X := B.1
  have W := B.W
  have w20 := W.1.2.2.2.2.2.2.2.2
  by_cases c : lA A 0 0 = 0
  · refine jO_same J (r := -(nI 2)) ?_ (by simp (disch := omega) only [fX3_undo, nL, nI_add, nJ_mul, nJ_div, nJ_mod, nI_leI, nI_ltI, nI_eq, Option.bind_some, Option.bind_none, Nat.one_ne_zero, Nat.zero_ne_one, Nat.zero_add, Nat.add_zero, if_true, if_false, not_true_eq_false, not_false_eq_true, gm_I M, rmU RM, c])
    rcases B.2.2.2.2.2.2 with ⟨hl, h2, h3⟩ | ⟨h1, h2⟩
    · have G := X.land
      simp (disch := omega) only [fX0_undo, nL, nI_add, nJ_mul, nJ_div, nJ_mod, nI_leI, nI_ltI, nI_eq, Option.bind_some, Option.bind_none, Nat.one_ne_zero, Nat.zero_ne_one, Nat.zero_add, Nat.add_zero, if_true, if_false, not_true_eq_false, not_false_eq_true, gx2 X hl, nq_66, gl_I G, h2.f7, c]
    · simp (disch := omega) only [fX0_undo, nL, nI_add, nJ_mul, nJ_div, nJ_mod, nI_leI, nI_ltI, nI_eq, Option.bind_some, Option.bind_none, Nat.one_ne_zero, Nat.zero_ne_one, Nat.zero_add, Nat.add_zero, if_true, if_false, not_true_eq_false, not_false_eq_true, gx2n X h1, nq_0]
  · have h0 : 0 < lA A 1 0 := by
      rcases B.2.2.2.2.2.2 with ⟨hl, h2, h3⟩ | ⟨h1, h2⟩
      · exact h3
      · exact absurd h2.2 c
    obtain ⟨KB, hl⟩ := B.K h0
    obtain ⟨I1, L1, a1, a2, a3, a4⟩ := bK_undo (L := L) KB hl V (by omega)
    have fX : frX I I1 := a2.X (Or.inl rfl)
    have fL : frXL L L1 := a3.X (Or.inl rfl)
    have K2 : mK q I1 A T sM := K.X fX
    obtain ⟨I2, d1, d2, d3, d4⟩ := kE_undo (L := L1) K2 V (by omega)
    have hx : I1 64 7 = nI (lA (a_undo A) 1 8) := by
      rw [a2 64 (by omega)]
      exact B.2.2.2.1
    exact jO_mk (r := nI (lA A 0 0 - 1)) (I1 := I1) (L1 := L1) a1 fX fL (a4.toL hl h0 hx) (lW2_undo V (by omega)) ⟨I2, L1, d1, frT_row (fun a a1 a2 => d2 a a1 (by omega)) (fun j hj => d3 j (by omega) (by omega) (by omega)), frTL.rf, d4⟩
end JC
