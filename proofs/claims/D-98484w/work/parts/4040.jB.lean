/-! P2 JB: both answer: more that is only asked -/
theorem xin_e (a b c : Int64) (g : ph_t) : fX0_in a b c g = some (nI (if b ≤ a ∧ a ≤ c then 1 else 0), g) := in_e a b c g
def inR (v : Int32) (l k : Nat) : Bool := decide ((l : Int) ≤ v.toInt ∧ v.toInt ≤ (k : Int))
theorem inR_iff {v : Int32} {l k : Nat} : inR v l k = true ↔ (l : Int) ≤ v.toInt ∧ v.toInt ≤ (k : Int) := decide_eq_true_iff
theorem in_lit {v : Int32} {lo hi : Int64} {l k : Nat} (hl : lo.toInt = l) (hh : hi.toInt = k) (g : ph_t) : fX3_in v.toInt64 lo hi g = some (nI (if inR v l k then 1 else 0), g) := by
  rw [in_e]
  have e : (lo ≤ v.toInt64 ∧ v.toInt64 ≤ hi) ↔ inR v l k = true := by
    rw [inR_iff, Int64.le_iff_toInt_le, Int64.le_iff_toInt_le, Int32.toInt_toInt64, hl, hh]
  cases c : inR v l k
  · rw [if_neg (fun z => by rw [e.mp z] at c; cases c)]; rfl
  · rw [if_pos (e.mpr c)]; rfl
theorem xin_lit {v : Int32} {lo hi : Int64} {l k : Nat} (hl : lo.toInt = l) (hh : hi.toInt = k) (g : ph_t) : fX0_in v.toInt64 lo hi g = some (nI (if inR v l k then 1 else 0), g) := in_lit hl hh g
theorem inR_of {v : Int32} {l k : Nat} (h : inR v l k = true) (hk : k < 2 ^ 30) : ∃ p, l ≤ p ∧ p ≤ k ∧ v = nI p := by
  have h := inR_iff.mp h
  have hb : inB v (k + 1) = true := inB_iff.mpr (by omega)
  obtain ⟨p, h1, rfl⟩ := inB_of hb (by omega)
  rw [nI_toInt (by omega)] at h
  exact ⟨p, by omega, by omega, rfl⟩
section JB
variable {q : ph_t} {I : iF} {L : lF_} {A : ld_t} {T : Nat → Nat → Bool} {sM : Nat}
/-- one who holds, as an int says it -/
def hdV (A : ld_t) (v : Int32) : Bool := decide (v = -(nI 1)) || inB v (lA A 1 2)
theorem kE_isHolder (K : mK q I A T sM) (v : Int32) : fX3_isHolder 136 v (hw q I L) = some (nI (if isL A && hdV A v then 1 else 0), hw q I L) := by
  have M := K.1
  have el := kE_isLandB (L := L) K
  have ep := kE_isPerson (L := L) K v
  unfold hdV
  cases c : isL A
  · simp (disch := omega) only [fX3_isHolder, nL, nI_add, nJ_mul, nJ_div, nJ_mod, nI_leI, nI_ltI, nI_eq, Option.bind_some, Option.bind_none, Nat.one_ne_zero, Nat.zero_ne_one, Nat.zero_add, Nat.add_zero, if_true, if_false, not_true_eq_false, not_false_eq_true, dm M, el, c, rz_0, Bool.false_and, Bool.false_eq_true]
  · by_cases c2 : v = -(nI 1)
    · simp (disch := omega) only [fX3_isHolder, fX3_isHolder_L20, nL, nI_add, nJ_mul, nJ_div, nJ_mod, nI_leI, nI_ltI, nI_eq, Option.bind_some, Option.bind_none, Nat.one_ne_zero, Nat.zero_ne_one, Nat.zero_add, Nat.add_zero, if_true, if_false, not_true_eq_false, not_false_eq_true, dm M, el, c, c2, rz_1, Bool.true_and, decide_true, Bool.true_or]
    · cases c3 : inB v (lA A 1 2)
      · simp (disch := omega) only [fX3_isHolder, fX3_isHolder_L20, nL, nI_add, nJ_mul, nJ_div, nJ_mod, nI_leI, nI_ltI, nI_eq, Option.bind_some, Option.bind_none, Nat.one_ne_zero, Nat.zero_ne_one, Nat.zero_add, Nat.add_zero, if_true, if_false, not_true_eq_false, not_false_eq_true, dm M, el, c, c2, ep, c3, rz_0, Bool.true_and, decide_false, Bool.false_or, Bool.false_eq_true]
      · simp (disch := omega) only [fX3_isHolder, fX3_isHolder_L20, nL, nI_add, nJ_mul, nJ_div, nJ_mod, nI_leI, nI_ltI, nI_eq, Option.bind_some, Option.bind_none, Nat.one_ne_zero, Nat.zero_ne_one, Nat.zero_add, Nat.add_zero, if_true, if_false, not_true_eq_false, not_false_eq_true, dm M, el, c, c2, ep, c3, rz_1, Bool.true_and, decide_false, Bool.false_or]
/-- who it is -/
theorem hdV_of {v : Int32} (h : hdV A v = true) (h6 : lA A 1 2 ≤ 6) : ∃ who, (who < lA A 1 2 ∨ who = 6) ∧ (if ¬ v = -(nI 1) then v else nI 6) = nI who ∧ ((v = -(nI 1) ∧ who = 6) ∨ (¬ v = -(nI 1) ∧ v = nI who)) := by
  unfold hdV at h
  by_cases c : v = -(nI 1)
  · exact ⟨6, Or.inr rfl, by rw [if_neg (fun z => z c)], Or.inl ⟨c, rfl⟩⟩
  · rw [decide_eq_false c, Bool.false_or] at h
    obtain ⟨p, hp, rfl⟩ := inB_of h (by omega)
    exact ⟨p, Or.inl hp, by rw [if_pos c], Or.inr ⟨c, rfl⟩⟩
theorem J_knows (J : jK q I L A T sM) (v w : Int32) : jO q I L T sM (fX0_knows 64 v w) (fX3_knows 136 v w) := by
  obtain ⟨K, B, V⟩ := id J
  obtain ⟨M, RM, hTM, -⟩ := id K
  obtain ⟨X, hT, -, -, W, h24, -⟩ := id B
  have h6 := W.1.2.2.1
  have e1 := bL_isAsked B w
  have e2 := kE_isSaying (L := L) K w
  have e3 := bL_isPerson B v
  have e4 := kE_isHolder (L := L) K v
  cases c : isL A
  · exact jO_same J (r := -(nI 2)) (by simp (disch := omega) only [fX0_knows, nL, nI_add, nJ_mul, nJ_div, nJ_mod, nI_leI, nI_ltI, nI_eq, Option.bind_some, Option.bind_none, Nat.one_ne_zero, Nat.zero_ne_one, Nat.zero_add, Nat.add_zero, if_true, if_false, not_true_eq_false, not_false_eq_true, dx X, e1, c, Bool.false_and, Bool.false_eq_true]) (by simp (disch := omega) only [fX3_knows, nL, nI_add, nJ_mul, nJ_div, nJ_mod, nI_leI, nI_ltI, nI_eq, Option.bind_some, Option.bind_none, Nat.one_ne_zero, Nat.zero_ne_one, Nat.zero_add, Nat.add_zero, if_true, if_false, not_true_eq_false, not_false_eq_true, dm M, e4, c, Bool.false_and, Bool.false_eq_true])
  · cases c2 : inB w sM
    · refine jO_same J (r := -(nI 2)) (by simp (disch := omega) only [fX0_knows, nL, nI_add, nJ_mul, nJ_div, nJ_mod, nI_leI, nI_ltI, nI_eq, Option.bind_some, Option.bind_none, Nat.one_ne_zero, Nat.zero_ne_one, Nat.zero_add, Nat.add_zero, if_true, if_false, not_true_eq_false, not_false_eq_true, dx X, e1, c2, Bool.and_false, Bool.false_eq_true]) ?_
      cases c3 : hdV A v
      · simp (disch := omega) only [fX3_knows, nL, nI_add, nJ_mul, nJ_div, nJ_mod, nI_leI, nI_ltI, nI_eq, Option.bind_some, Option.bind_none, Nat.one_ne_zero, Nat.zero_ne_one, Nat.zero_add, Nat.add_zero, if_true, if_false, not_true_eq_false, not_false_eq_true, dm M, e4, c3, Bool.and_false, Bool.false_eq_true]
      · simp (disch := omega) only [fX3_knows, nL, nI_add, nJ_mul, nJ_div, nJ_mod, nI_leI, nI_ltI, nI_eq, Option.bind_some, Option.bind_none, Nat.one_ne_zero, Nat.zero_ne_one, Nat.zero_add, Nat.add_zero, if_true, if_false, not_true_eq_false, not_false_eq_true, dm M, e4, c, c3, e2, c2, Bool.and_self, Bool.false_eq_true]
    · obtain ⟨⟨-, G, R, -⟩, hl⟩ := B.K (isL_iff.mp c)
      cases c3 : hdV A v
      · have c4 := c3
        unfold hdV at c4
        rw [Bool.or_eq_false_iff] at c4
        have c5 : ¬ v = -(nI 1) := of_decide_eq_false c4.1
        exact jO_same J (r := -(nI 2)) (by simp (disch := omega) only [fX0_knows, nL, nI_add, nJ_mul, nJ_div, nJ_mod, nI_leI, nI_ltI, nI_eq, Option.bind_some, Option.bind_none, Nat.one_ne_zero, Nat.zero_ne_one, Nat.zero_add, Nat.add_zero, if_true, if_false, not_true_eq_false, not_false_eq_true, dx X, e1, c, c2, c5, e3, c4.2, Bool.and_self, Bool.false_eq_true]) (by simp (disch := omega) only [fX3_knows, nL, nI_add, nJ_mul, nJ_div, nJ_mod, nI_leI, nI_ltI, nI_eq, Option.bind_some, Option.bind_none, Nat.one_ne_zero, Nat.zero_ne_one, Nat.zero_add, Nat.add_zero, if_true, if_false, not_true_eq_false, not_false_eq_true, dm M, e4, c3, Bool.and_false, Bool.false_eq_true])
      · obtain ⟨who, hq, -, hv⟩ := hdV_of c3 h6
        obtain ⟨s, hs, rfl⟩ := inB_of c2 (by omega)
        have e5 := bE_isKnown (L := L) X G R hT W hq hs h24
        have e6 := mE_isKnown (L := L) M RM hTM W hq hs h24
        refine jO_same J (r := nI (if kn_ (lH A who) (T s) then 1 else 0)) ?_ ?_
        · rcases hv with ⟨c5, c6⟩ | ⟨c5, c6⟩
          · subst c6
            cases c7 : kn_ (lH A 6) (T s)
            · simp (disch := omega) only [fX0_knows, fX0_knows_L24, fX0_knows_L40, nL, nI_add, nJ_mul, nJ_div, nJ_mod, nI_leI, nI_ltI, nI_eq, Option.bind_some, Option.bind_none, Nat.one_ne_zero, Nat.zero_ne_one, Nat.zero_add, Nat.add_zero, if_true, if_false, not_true_eq_false, not_false_eq_true, dx X, e1, c, c2, c5, gx2 X hl, e5, c7, Bool.and_self, Bool.false_eq_true]
            · simp (disch := omega) only [fX0_knows, fX0_knows_L24, fX0_knows_L40, nL, nI_add, nJ_mul, nJ_div, nJ_mod, nI_leI, nI_ltI, nI_eq, Option.bind_some, Option.bind_none, Nat.one_ne_zero, Nat.zero_ne_one, Nat.zero_add, Nat.add_zero, if_true, if_false, not_true_eq_false, not_false_eq_true, dx X, e1, c, c2, c5, gx2 X hl, e5, c7, Bool.and_self]
          · have c8 : inB v (lA A 1 2) = true := by
              unfold hdV at c3
              rw [decide_eq_false c5, Bool.false_or] at c3
              exact c3
            subst c6
            cases c7 : kn_ (lH A who) (T s)
            · simp (disch := omega) only [fX0_knows, fX0_knows_L24, fX0_knows_L40, nL, nI_add, nJ_mul, nJ_div, nJ_mod, nI_leI, nI_ltI, nI_eq, Option.bind_some, Option.bind_none, Nat.one_ne_zero, Nat.zero_ne_one, Nat.zero_add, Nat.add_zero, if_true, if_false, not_true_eq_false, not_false_eq_true, dx X, e1, c, c2, c5, e3, c8, gx2 X hl, e5, c7, Bool.and_self, Bool.false_eq_true]
            · simp (disch := omega) only [fX0_knows, fX0_knows_L24, fX0_knows_L40, nL, nI_add, nJ_mul, nJ_div, nJ_mod, nI_leI, nI_ltI, nI_eq, Option.bind_some, Option.bind_none, Nat.one_ne_zero, Nat.zero_ne_one, Nat.zero_add, Nat.add_zero, if_true, if_false, not_true_eq_false, not_false_eq_true, dx X, e1, c, c2, c5, e3, c8, gx2 X hl, e5, c7, Bool.and_self]
        · rcases hv with ⟨c5, c6⟩ | ⟨c5, c6⟩
          · subst c5 c6
            cases c7 : kn_ (lH A 6) (T s)
            · simp (disch := omega) only [fX3_knows, fX3_heldBy, nL, nI_add, nJ_mul, nJ_div, nJ_mod, nI_leI, nI_ltI, nI_eq, Option.bind_some, Option.bind_none, Nat.one_ne_zero, Nat.zero_ne_one, Nat.zero_add, Nat.add_zero, if_true, if_false, not_true_eq_false, not_false_eq_true, dm M, e4, c, c3, e2, c2, e6, c7, Bool.and_self, Bool.false_eq_true]
            · simp (disch := omega) only [fX3_knows, fX3_heldBy, nL, nI_add, nJ_mul, nJ_div, nJ_mod, nI_leI, nI_ltI, nI_eq, Option.bind_some, Option.bind_none, Nat.one_ne_zero, Nat.zero_ne_one, Nat.zero_add, Nat.add_zero, if_true, if_false, not_true_eq_false, not_false_eq_true, dm M, e4, c, c3, e2, c2, e6, c7, Bool.and_self]
          · subst c6
            cases c7 : kn_ (lH A who) (T s)
            · simp (disch := omega) only [fX3_knows, fX3_heldBy, nL, nI_add, nJ_mul, nJ_div, nJ_mod, nI_leI, nI_ltI, nI_eq, Option.bind_some, Option.bind_none, Nat.one_ne_zero, Nat.zero_ne_one, Nat.zero_add, Nat.add_zero, if_true, if_false, not_true_eq_false, not_false_eq_true, dm M, e4, c, c3, e2, c2, c5, e6, c7, Bool.and_self, Bool.false_eq_true]
            · simp (disch := omega) only [fX3_knows, fX3_heldBy, nL, nI_add, nJ_mul, nJ_div, nJ_mod, nI_leI, nI_ltI, nI_eq, Option.bind_some, Option.bind_none, Nat.one_ne_zero, Nat.zero_ne_one, Nat.zero_add, Nat.add_zero, if_true, if_false, not_true_eq_false, not_false_eq_true, dm M, e4, c, c3, e2, c2, c5, e6, c7, Bool.and_self]
theorem J_possible (J : jK q I L A T sM) (v w : Int32) : jO q I L T sM (fX0_possible 64 v w) (fX3_possible 136 v w) := by
  obtain ⟨K, B, V⟩ := id J
  obtain ⟨M, RM, hTM, -⟩ := id K
  obtain ⟨X, hT, -, -, W, h24, -⟩ := id B
  have h6 := W.1.2.2.1
  have h8 := p2_8 W.1.1
  have e1 := bL_isWorld B w
  have e2 := kE_isWorld (L := L) K w
  have e3 := bL_isPerson B v
  have e4 := kE_isHolder (L := L) K v
  cases c : isL A
  · exact jO_same J (r := -(nI 2)) (by simp (disch := omega) only [fX0_possible, nL, nI_add, nJ_mul, nJ_div, nJ_mod, nI_leI, nI_ltI, nI_eq, Option.bind_some, Option.bind_none, Nat.one_ne_zero, Nat.zero_ne_one, Nat.zero_add, Nat.add_zero, if_true, if_false, not_true_eq_false, not_false_eq_true, dx X, e1, c, Bool.false_and, Bool.false_eq_true]) (by simp (disch := omega) only [fX3_possible, nL, nI_add, nJ_mul, nJ_div, nJ_mod, nI_leI, nI_ltI, nI_eq, Option.bind_some, Option.bind_none, Nat.one_ne_zero, Nat.zero_ne_one, Nat.zero_add, Nat.add_zero, if_true, if_false, not_true_eq_false, not_false_eq_true, dm M, e4, c, Bool.false_and, Bool.false_eq_true])
  · cases c2 : inB w (2 ^ lA A 1 0)
    · refine jO_same J (r := -(nI 2)) (by simp (disch := omega) only [fX0_possible, nL, nI_add, nJ_mul, nJ_div, nJ_mod, nI_leI, nI_ltI, nI_eq, Option.bind_some, Option.bind_none, Nat.one_ne_zero, Nat.zero_ne_one, Nat.zero_add, Nat.add_zero, if_true, if_false, not_true_eq_false, not_false_eq_true, dx X, e1, c2, Bool.and_false, Bool.false_eq_true]) ?_
      cases c3 : hdV A v
      · simp (disch := omega) only [fX3_possible, nL, nI_add, nJ_mul, nJ_div, nJ_mod, nI_leI, nI_ltI, nI_eq, Option.bind_some, Option.bind_none, Nat.one_ne_zero, Nat.zero_ne_one, Nat.zero_add, Nat.add_zero, if_true, if_false, not_true_eq_false, not_false_eq_true, dm M, e4, c3, Bool.and_false, Bool.false_eq_true]
      · simp (disch := omega) only [fX3_possible, nL, nI_add, nJ_mul, nJ_div, nJ_mod, nI_leI, nI_ltI, nI_eq, Option.bind_some, Option.bind_none, Nat.one_ne_zero, Nat.zero_ne_one, Nat.zero_add, Nat.add_zero, if_true, if_false, not_true_eq_false, not_false_eq_true, dm M, e4, c, c3, e2, c2, Bool.and_self, Bool.and_false, Bool.false_eq_true]
    · obtain ⟨⟨-, G, R, -⟩, hl⟩ := B.K (isL_iff.mp c)
      cases c3 : hdV A v
      · have c4 := c3
        unfold hdV at c4
        rw [Bool.or_eq_false_iff] at c4
        have c5 : ¬ v = -(nI 1) := of_decide_eq_false c4.1
        exact jO_same J (r := -(nI 2)) (by simp (disch := omega) only [fX0_possible, nL, nI_add, nJ_mul, nJ_div, nJ_mod, nI_leI, nI_ltI, nI_eq, Option.bind_some, Option.bind_none, Nat.one_ne_zero, Nat.zero_ne_one, Nat.zero_add, Nat.add_zero, if_true, if_false, not_true_eq_false, not_false_eq_true, dx X, e1, c, c2, c5, e3, c4.2, Bool.and_self, Bool.false_eq_true]) (by simp (disch := omega) only [fX3_possible, nL, nI_add, nJ_mul, nJ_div, nJ_mod, nI_leI, nI_ltI, nI_eq, Option.bind_some, Option.bind_none, Nat.one_ne_zero, Nat.zero_ne_one, Nat.zero_add, Nat.add_zero, if_true, if_false, not_true_eq_false, not_false_eq_true, dm M, e4, c3, Bool.and_false, Bool.false_eq_true])
      · obtain ⟨who, hq, -, hv⟩ := hdV_of c3 h6
        obtain ⟨s, hs, rfl⟩ := inB_of c2 (by omega)
        have e5 := bE_isHeld (L := L) G R W hq (w := s) (by omega)
        have e6 := mE_isHeld (L := L) M RM hq (w := s) (by omega) W
        refine jO_same J (r := nI (if lH A who s then 1 else 0)) ?_ ?_
        · rcases hv with ⟨c5, c6⟩ | ⟨c5, c6⟩
          · subst c6
            cases c7 : lH A 6 s
            · simp (disch := omega) only [fX0_possible, fX0_possible_L24, fX0_possible_L39, nL, nI_add, nJ_mul, nJ_div, nJ_mod, nI_leI, nI_ltI, nI_eq, Option.bind_some, Option.bind_none, Nat.one_ne_zero, Nat.zero_ne_one, Nat.zero_add, Nat.add_zero, if_true, if_false, not_true_eq_false, not_false_eq_true, dx X, e1, c, c2, c5, gx2 X hl, dl G, e5, c7, Bool.and_self, Bool.false_eq_true]
            · simp (disch := omega) only [fX0_possible, fX0_possible_L24, fX0_possible_L39, nL, nI_add, nJ_mul, nJ_div, nJ_mod, nI_leI, nI_ltI, nI_eq, Option.bind_some, Option.bind_none, Nat.one_ne_zero, Nat.zero_ne_one, Nat.zero_add, Nat.add_zero, if_true, if_false, not_true_eq_false, not_false_eq_true, dx X, e1, c, c2, c5, gx2 X hl, dl G, e5, c7, Bool.and_self]
          · have c8 : inB v (lA A 1 2) = true := by
              unfold hdV at c3
              rw [decide_eq_false c5, Bool.false_or] at c3
              exact c3
            subst c6
            cases c7 : lH A who s
            · simp (disch := omega) only [fX0_possible, fX0_possible_L24, fX0_possible_L39, nL, nI_add, nJ_mul, nJ_div, nJ_mod, nI_leI, nI_ltI, nI_eq, Option.bind_some, Option.bind_none, Nat.one_ne_zero, Nat.zero_ne_one, Nat.zero_add, Nat.add_zero, if_true, if_false, not_true_eq_false, not_false_eq_true, dx X, e1, c, c2, c5, e3, c8, gx2 X hl, dl G, e5, c7, Bool.and_self, Bool.false_eq_true]
            · simp (disch := omega) only [fX0_possible, fX0_possible_L24, fX0_possible_L39, nL, nI_add, nJ_mul, nJ_div, nJ_mod, nI_leI, nI_ltI, nI_eq, Option.bind_some, Option.bind_none, Nat.one_ne_zero, Nat.zero_ne_one, Nat.zero_add, Nat.add_zero, if_true, if_false, not_true_eq_false, not_false_eq_true, dx X, e1, c, c2, c5, e3, c8, gx2 X hl, dl G, e5, c7, Bool.and_self]
        · rcases hv with ⟨c5, c6⟩ | ⟨c5, c6⟩
          · subst c5 c6
            cases c7 : lH A 6 s
            · simp (disch := omega) only [fX3_possible, fX3_heldBy, nL, nI_add, nJ_mul, nJ_div, nJ_mod, nI_leI, nI_ltI, nI_eq, Option.bind_some, Option.bind_none, Nat.one_ne_zero, Nat.zero_ne_one, Nat.zero_add, Nat.add_zero, if_true, if_false, not_true_eq_false, not_false_eq_true, dm M, e4, c, c3, e2, c2, e6, c7, Bool.and_self, Bool.false_eq_true]
            · simp (disch := omega) only [fX3_possible, fX3_heldBy, nL, nI_add, nJ_mul, nJ_div, nJ_mod, nI_leI, nI_ltI, nI_eq, Option.bind_some, Option.bind_none, Nat.one_ne_zero, Nat.zero_ne_one, Nat.zero_add, Nat.add_zero, if_true, if_false, not_true_eq_false, not_false_eq_true, dm M, e4, c, c3, e2, c2, e6, c7, Bool.and_self]
          · subst c6
            cases c7 : lH A who s
            · simp (disch := omega) only [fX3_possible, fX3_heldBy, nL, nI_add, nJ_mul, nJ_div, nJ_mod, nI_leI, nI_ltI, nI_eq, Option.bind_some, Option.bind_none, Nat.one_ne_zero, Nat.zero_ne_one, Nat.zero_add, Nat.add_zero, if_true, if_false, not_true_eq_false, not_false_eq_true, dm M, e4, c, c3, e2, c2, c5, e6, c7, Bool.and_self, Bool.false_eq_true]
            · simp (disch := omega) only [fX3_possible, fX3_heldBy, nL, nI_add, nJ_mul, nJ_div, nJ_mod, nI_leI, nI_ltI, nI_eq, Option.bind_some, Option.bind_none, Nat.one_ne_zero, Nat.zero_ne_one, Nat.zero_add, Nat.add_zero, if_true, if_false, not_true_eq_false, not_false_eq_true, dm M, e4, c, c3, e2, c2, c5, e6, c7, Bool.and_self]
/-- the facts one knows, as a set -/
def kfS (A : ld_t) (p : Nat) (f x : Nat) : Nat := x ||| (if a_kf A p f then 2 ^ f else 0)
theorem J_person (J : jK q I L A T sM) (v w : Int32) : jO q I L T sM (fX0_person 64 v w) (fX3_person 136 v w) := by
  obtain ⟨K, B, V⟩ := id J
  obtain ⟨M, RM, hTM, -⟩ := id K
  obtain ⟨X, hT, -, -, W, h24, -⟩ := id B
  have h6 := W.1.2.2.1
  have h0 := W.1.1
  have e1 := bL_isPerson B v
  have e2 := kE_isPerson (L := L) K v
  cases c : inB v (lA A 1 2)
  · exact jO_same J (r := -(nI 1)) (by simp (disch := omega) only [fX0_person, nL, nI_add, nJ_mul, nJ_div, nJ_mod, nI_leI, nI_ltI, nI_eq, Option.bind_some, Option.bind_none, Nat.one_ne_zero, Nat.zero_ne_one, Nat.zero_add, Nat.add_zero, if_true, if_false, not_true_eq_false, not_false_eq_true, dx X, e1, c, Bool.false_eq_true]) (by simp (disch := omega) only [fX3_person, nL, nI_add, nJ_mul, nJ_div, nJ_mod, nI_leI, nI_ltI, nI_eq, Option.bind_some, Option.bind_none, Nat.one_ne_zero, Nat.zero_ne_one, Nat.zero_add, Nat.add_zero, if_true, if_false, not_true_eq_false, not_false_eq_true, dm M, e2, c, Bool.false_eq_true])
  · obtain ⟨p, hp, rfl⟩ := inB_of c (by omega)
    obtain ⟨⟨-, G, R, -⟩, hl⟩ := B.K (B.pos (j := 2) (by decide) (by omega))
    have e3 := bE_heldMany (L := L) G R W (who := p) (Or.inl hp)
    have e4 := mE_manyHeld (L := L) M RM (who := p) (Or.inl hp) W
    have e5 : fX0_person_L121 64 (nI p) (nI 0) (nI 0) (hw q I L) = some (nI (fo_ (kfS A p) 0 (lA A 1 0)), hw q I L) := by
      unfold fX0_person_L121
      refine whl_for (fun i => (nI (fo_ (kfS A p) 0 i), nI i, hw q I L)) (lA A 1 0) rfl (fun i hi => ?_) ?_
      · have e := bE_knowsFact (L := L) G R W (who := p) (Or.inl hp) hi
        have ef := nJ_shl (k := i) (by omega)
        rw [nL 1] at ef
        rw [show fo_ (kfS A p) 0 (i + 1) = kfS A p i (fo_ (kfS A p) 0 i) from rfl]
        generalize fo_ (kfS A p) 0 i = x
        unfold kfS
        cases c1 : a_kf A p i
        · simp (disch := omega) only [fX0_person_L121_b, fX0_person_L155, nm_, nL, nI_add, nJ_mul, nJ_div, nJ_mod, nI_leI, nI_ltI, nI_eq, Option.bind_some, Option.bind_none, Nat.one_ne_zero, Nat.zero_ne_one, Nat.zero_add, Nat.add_zero, if_true, if_false, not_true_eq_false, not_false_eq_true, gx2 X hl, gl_I G, dl G, R.f0, e, c1, nJ_or, show ¬ lA A 1 0 ≤ i by omega, Bool.false_eq_true]
        · simp (disch := omega) only [fX0_person_L121_b, fX0_person_L155, nm_, nL, nI_add, nJ_mul, nJ_div, nJ_mod, nI_leI, nI_ltI, nI_eq, Option.bind_some, Option.bind_none, Nat.one_ne_zero, Nat.zero_ne_one, Nat.zero_add, Nat.add_zero, if_true, if_false, not_true_eq_false, not_false_eq_true, gx2 X hl, gl_I G, dl G, R.f0, e, c1, ef, nJ_or, show ¬ lA A 1 0 ≤ i by omega]
      · simp (disch := omega) only [fX0_person_L121_b, nL, nI_add, nJ_mul, nJ_div, nJ_mod, nI_leI, nI_ltI, nI_eq, Option.bind_some, Option.bind_none, Nat.one_ne_zero, Nat.zero_ne_one, Nat.zero_add, Nat.add_zero, if_true, if_false, not_true_eq_false, not_false_eq_true, gx2 X hl, gl_I G, R.f0, Nat.le_refl, xr_s]
    have e6 : fX3_person_L98 136 (nI p) (nI 0) (nI 0) (hw q I L) = some (nI (fo_ (kfS A p) 0 (lA A 1 0)), hw q I L) := by
      unfold fX3_person_L98
      refine whl_for (fun i => (nI (fo_ (kfS A p) 0 i), nI i, hw q I L)) (lA A 1 0) rfl (fun i hi => ?_) ?_
      · have e := kE_knowsFact (L := L) K (who := p) (Or.inl hp) hi
        have ef := nJ_shl (k := i) (by omega)
        rw [nL 1] at ef
        rw [show fo_ (kfS A p) 0 (i + 1) = kfS A p i (fo_ (kfS A p) 0 i) from rfl]
        generalize fo_ (kfS A p) 0 i = x
        unfold kfS
        cases c1 : a_kf A p i
        · simp (disch := omega) only [fX3_person_L98_b, fX3_person_L128, nm_, nL, nI_add, nJ_mul, nJ_div, nJ_mod, nI_leI, nI_ltI, nI_eq, Option.bind_some, Option.bind_none, Nat.one_ne_zero, Nat.zero_ne_one, Nat.zero_add, Nat.add_zero, if_true, if_false, not_true_eq_false, not_false_eq_true, gm1 M, xm137 M, rm1 RM, dm M, e, c1, nJ_or, show ¬ lA A 1 0 ≤ i by omega, Bool.false_eq_true]
        · simp (disch := omega) only [fX3_person_L98_b, fX3_person_L128, nm_, nL, nI_add, nJ_mul, nJ_div, nJ_mod, nI_leI, nI_ltI, nI_eq, Option.bind_some, Option.bind_none, Nat.one_ne_zero, Nat.zero_ne_one, Nat.zero_add, Nat.add_zero, if_true, if_false, not_true_eq_false, not_false_eq_true, gm1 M, xm137 M, rm1 RM, dm M, e, c1, ef, nJ_or, show ¬ lA A 1 0 ≤ i by omega]
      · simp (disch := omega) only [fX3_person_L98_b, nL, nI_add, nJ_mul, nJ_div, nJ_mod, nI_leI, nI_ltI, nI_eq, Option.bind_some, Option.bind_none, Nat.one_ne_zero, Nat.zero_ne_one, Nat.zero_add, Nat.add_zero, if_true, if_false, not_true_eq_false, not_false_eq_true, gm1 M, xm137 M, rm1 RM, Nat.le_refl, xr_s]
    by_cases w0 : w = nI 0
    · exact jO_same J (r := nI (lA A 2 p)) (by simp (disch := omega) only [fX0_person, nL, nI_add, nJ_mul, nJ_div, nJ_mod, nI_leI, nI_ltI, nI_eq, Option.bind_some, Option.bind_none, Nat.one_ne_zero, Nat.zero_ne_one, Nat.zero_add, Nat.add_zero, if_true, if_false, not_true_eq_false, not_false_eq_true, e1, c, w0, dx X, gx_I X, gx2 X hl, dl G, gl_I G, gl9 G, xl9 G, gl10 G, xl10 G, gl11 G, xl11 G, gl12 G, xl12 G, gl13 G, xl13 G, gl14 G, xl14 G, gl15 G, xl15 G, gl16 G, xl16 G, gl17 G, xl17 G, gl18 G, xl18 G, gl19 G, xl19 G, gl20 G, xl20 G, gl21 G, xl21 G, R.f0, R.f1, R.f2, R.f3, R.f4, R.f5, R.f6, R.f7, R.f8, rl1 R, rl2 R, rl3 R, rl4 R, rl5 R, rl6 R, rl7 R, rl8 R, rl9 R, rl10 R, rl11 R]) (by simp (disch := omega) only [fX3_person, nL, nI_add, nJ_mul, nJ_div, nJ_mod, nI_leI, nI_ltI, nI_eq, Option.bind_some, Option.bind_none, Nat.one_ne_zero, Nat.zero_ne_one, Nat.zero_add, Nat.add_zero, if_true, if_false, not_true_eq_false, not_false_eq_true, e2, c, w0, dm M, gm_I M, gm1 M, xm137 M, gm2 M, xm138 M, gm3 M, xm139 M, gm4 M, xm140 M, gm5 M, xm141 M, gm6 M, xm142 M, gm7 M, xm143 M, gm8 M, xm144 M, gm9 M, xm145 M, gm10 M, xm146 M, gm11 M, xm147 M, gm12 M, xm148 M, gm13 M, xm149 M, gm14 M, xm150 M, gm15 M, xm151 M, gm16 M, xm152 M, gm17 M, xm153 M, gm18 M, xm154 M, gm19 M, xm155 M, gm20 M, xm156 M, gm21 M, xm157 M, gm22 M, xm158 M, gm23 M, xm159 M, gm24 M, xm160 M, gm25 M, xm161 M, gm26 M, xm162 M, gm38 M, xm163 M, gm39 M, xm164 M, gm40 M, xm165 M, gm41 M, xm166 M, gm42 M, xm167 M, gm43 M, xm168 M, gm44 M, xm169 M, gm45 M, xm170 M, gm46 M, xm171 M, gm47 M, xm172 M, gm48 M, xm173 M, gm49 M, xm174 M, gm50 M, xm175 M, gm54 M, xm176 M, gm55 M, xm177 M, gm56 M, xm178 M, gm57 M, xm179 M, gm58 M, xm180 M, gm62 M, xm181 M, gm63 M, xm182 M, gm64 M, xm183 M, gm65 M, xm184 M, gm66 M, xm185 M, gm69 M, xm186 M, gm70 M, xm187 M, gm73 M, xm188 M, gm74 M, xm189 M, rmU RM, rm1 RM, rm2 RM, rm3 RM, rm4 RM, rm5 RM, rm6 RM, rm7 RM, rm8 RM, rm9 RM, rm10 RM, rm11 RM, rm12 RM, rm13 RM, rm14 RM])
    by_cases w1 : w = nI 1
    · exact jO_same J (r := nI (lA A 3 p)) (by simp (disch := omega) only [fX0_person, nL, nI_add, nJ_mul, nJ_div, nJ_mod, nI_leI, nI_ltI, nI_eq, Option.bind_some, Option.bind_none, Nat.one_ne_zero, Nat.zero_ne_one, Nat.zero_add, Nat.add_zero, if_true, if_false, not_true_eq_false, not_false_eq_true, e1, c, w1, dx X, gx_I X, gx2 X hl, dl G, gl_I G, gl9 G, xl9 G, gl10 G, xl10 G, gl11 G, xl11 G, gl12 G, xl12 G, gl13 G, xl13 G, gl14 G, xl14 G, gl15 G, xl15 G, gl16 G, xl16 G, gl17 G, xl17 G, gl18 G, xl18 G, gl19 G, xl19 G, gl20 G, xl20 G, gl21 G, xl21 G, R.f0, R.f1, R.f2, R.f3, R.f4, R.f5, R.f6, R.f7, R.f8, rl1 R, rl2 R, rl3 R, rl4 R, rl5 R, rl6 R, rl7 R, rl8 R, rl9 R, rl10 R, rl11 R]) (by simp (disch := omega) only [fX3_person, nL, nI_add, nJ_mul, nJ_div, nJ_mod, nI_leI, nI_ltI, nI_eq, Option.bind_some, Option.bind_none, Nat.one_ne_zero, Nat.zero_ne_one, Nat.zero_add, Nat.add_zero, if_true, if_false, not_true_eq_false, not_false_eq_true, e2, c, w1, dm M, gm_I M, gm1 M, xm137 M, gm2 M, xm138 M, gm3 M, xm139 M, gm4 M, xm140 M, gm5 M, xm141 M, gm6 M, xm142 M, gm7 M, xm143 M, gm8 M, xm144 M, gm9 M, xm145 M, gm10 M, xm146 M, gm11 M, xm147 M, gm12 M, xm148 M, gm13 M, xm149 M, gm14 M, xm150 M, gm15 M, xm151 M, gm16 M, xm152 M, gm17 M, xm153 M, gm18 M, xm154 M, gm19 M, xm155 M, gm20 M, xm156 M, gm21 M, xm157 M, gm22 M, xm158 M, gm23 M, xm159 M, gm24 M, xm160 M, gm25 M, xm161 M, gm26 M, xm162 M, gm38 M, xm163 M, gm39 M, xm164 M, gm40 M, xm165 M, gm41 M, xm166 M, gm42 M, xm167 M, gm43 M, xm168 M, gm44 M, xm169 M, gm45 M, xm170 M, gm46 M, xm171 M, gm47 M, xm172 M, gm48 M, xm173 M, gm49 M, xm174 M, gm50 M, xm175 M, gm54 M, xm176 M, gm55 M, xm177 M, gm56 M, xm178 M, gm57 M, xm179 M, gm58 M, xm180 M, gm62 M, xm181 M, gm63 M, xm182 M, gm64 M, xm183 M, gm65 M, xm184 M, gm66 M, xm185 M, gm69 M, xm186 M, gm70 M, xm187 M, gm73 M, xm188 M, gm74 M, xm189 M, rmU RM, rm1 RM, rm2 RM, rm3 RM, rm4 RM, rm5 RM, rm6 RM, rm7 RM, rm8 RM, rm9 RM, rm10 RM, rm11 RM, rm12 RM, rm13 RM, rm14 RM])
    by_cases w2 : w = nI 2
    · exact jO_same J (r := nI (lA A 4 p)) (by simp (disch := omega) only [fX0_person, nL, nI_add, nJ_mul, nJ_div, nJ_mod, nI_leI, nI_ltI, nI_eq, Option.bind_some, Option.bind_none, Nat.one_ne_zero, Nat.zero_ne_one, Nat.zero_add, Nat.add_zero, if_true, if_false, not_true_eq_false, not_false_eq_true, e1, c, w2, dx X, gx_I X, gx2 X hl, dl G, gl_I G, gl9 G, xl9 G, gl10 G, xl10 G, gl11 G, xl11 G, gl12 G, xl12 G, gl13 G, xl13 G, gl14 G, xl14 G, gl15 G, xl15 G, gl16 G, xl16 G, gl17 G, xl17 G, gl18 G, xl18 G, gl19 G, xl19 G, gl20 G, xl20 G, gl21 G, xl21 G, R.f0, R.f1, R.f2, R.f3, R.f4, R.f5, R.f6, R.f7, R.f8, rl1 R, rl2 R, rl3 R, rl4 R, rl5 R, rl6 R, rl7 R, rl8 R, rl9 R, rl10 R, rl11 R, Nat.reduceEqDiff]) (by simp (disch := omega) only [fX3_person, nL, nI_add, nJ_mul, nJ_div, nJ_mod, nI_leI, nI_ltI, nI_eq, Option.bind_some, Option.bind_none, Nat.one_ne_zero, Nat.zero_ne_one, Nat.zero_add, Nat.add_zero, if_true, if_false, not_true_eq_false, not_false_eq_true, e2, c, w2, dm M, gm_I M, gm1 M, xm137 M, gm2 M, xm138 M, gm3 M, xm139 M, gm4 M, xm140 M, gm5 M, xm141 M, gm6 M, xm142 M, gm7 M, xm143 M, gm8 M, xm144 M, gm9 M, xm145 M, gm10 M, xm146 M, gm11 M, xm147 M, gm12 M, xm148 M, gm13 M, xm149 M, gm14 M, xm150 M, gm15 M, xm151 M, gm16 M, xm152 M, gm17 M, xm153 M, gm18 M, xm154 M, gm19 M, xm155 M, gm20 M, xm156 M, gm21 M, xm157 M, gm22 M, xm158 M, gm23 M, xm159 M, gm24 M, xm160 M, gm25 M, xm161 M, gm26 M, xm162 M, gm38 M, xm163 M, gm39 M, xm164 M, gm40 M, xm165 M, gm41 M, xm166 M, gm42 M, xm167 M, gm43 M, xm168 M, gm44 M, xm169 M, gm45 M, xm170 M, gm46 M, xm171 M, gm47 M, xm172 M, gm48 M, xm173 M, gm49 M, xm174 M, gm50 M, xm175 M, gm54 M, xm176 M, gm55 M, xm177 M, gm56 M, xm178 M, gm57 M, xm179 M, gm58 M, xm180 M, gm62 M, xm181 M, gm63 M, xm182 M, gm64 M, xm183 M, gm65 M, xm184 M, gm66 M, xm185 M, gm69 M, xm186 M, gm70 M, xm187 M, gm73 M, xm188 M, gm74 M, xm189 M, rmU RM, rm1 RM, rm2 RM, rm3 RM, rm4 RM, rm5 RM, rm6 RM, rm7 RM, rm8 RM, rm9 RM, rm10 RM, rm11 RM, rm12 RM, rm13 RM, rm14 RM, Nat.reduceEqDiff])
    by_cases w3 : w = nI 3
    · exact jO_same J (r := nI (lA A 5 p)) (by simp (disch := omega) only [fX0_person, nL, nI_add, nJ_mul, nJ_div, nJ_mod, nI_leI, nI_ltI, nI_eq, Option.bind_some, Option.bind_none, Nat.one_ne_zero, Nat.zero_ne_one, Nat.zero_add, Nat.add_zero, if_true, if_false, not_true_eq_false, not_false_eq_true, e1, c, w3, dx X, gx_I X, gx2 X hl, dl G, gl_I G, gl9 G, xl9 G, gl10 G, xl10 G, gl11 G, xl11 G, gl12 G, xl12 G, gl13 G, xl13 G, gl14 G, xl14 G, gl15 G, xl15 G, gl16 G, xl16 G, gl17 G, xl17 G, gl18 G, xl18 G, gl19 G, xl19 G, gl20 G, xl20 G, gl21 G, xl21 G, R.f0, R.f1, R.f2, R.f3, R.f4, R.f5, R.f6, R.f7, R.f8, rl1 R, rl2 R, rl3 R, rl4 R, rl5 R, rl6 R, rl7 R, rl8 R, rl9 R, rl10 R, rl11 R, Nat.reduceEqDiff]) (by simp (disch := omega) only [fX3_person, nL, nI_add, nJ_mul, nJ_div, nJ_mod, nI_leI, nI_ltI, nI_eq, Option.bind_some, Option.bind_none, Nat.one_ne_zero, Nat.zero_ne_one, Nat.zero_add, Nat.add_zero, if_true, if_false, not_true_eq_false, not_false_eq_true, e2, c, w3, dm M, gm_I M, gm1 M, xm137 M, gm2 M, xm138 M, gm3 M, xm139 M, gm4 M, xm140 M, gm5 M, xm141 M, gm6 M, xm142 M, gm7 M, xm143 M, gm8 M, xm144 M, gm9 M, xm145 M, gm10 M, xm146 M, gm11 M, xm147 M, gm12 M, xm148 M, gm13 M, xm149 M, gm14 M, xm150 M, gm15 M, xm151 M, gm16 M, xm152 M, gm17 M, xm153 M, gm18 M, xm154 M, gm19 M, xm155 M, gm20 M, xm156 M, gm21 M, xm157 M, gm22 M, xm158 M, gm23 M, xm159 M, gm24 M, xm160 M, gm25 M, xm161 M, gm26 M, xm162 M, gm38 M, xm163 M, gm39 M, xm164 M, gm40 M, xm165 M, gm41 M, xm166 M, gm42 M, xm167 M, gm43 M, xm168 M, gm44 M, xm169 M, gm45 M, xm170 M, gm46 M, xm171 M, gm47 M, xm172 M, gm48 M, xm173 M, gm49 M, xm174 M, gm50 M, xm175 M, gm54 M, xm176 M, gm55 M, xm177 M, gm56 M, xm178 M, gm57 M, xm179 M, gm58 M, xm180 M, gm62 M, xm181 M, gm63 M, xm182 M, gm64 M, xm183 M, gm65 M, xm184 M, gm66 M, xm185 M, gm69 M, xm186 M, gm70 M, xm187 M, gm73 M, xm188 M, gm74 M, xm189 M, rmU RM, rm1 RM, rm2 RM, rm3 RM, rm4 RM, rm5 RM, rm6 RM, rm7 RM, rm8 RM, rm9 RM, rm10 RM, rm11 RM, rm12 RM, rm13 RM, rm14 RM, Nat.reduceEqDiff])
    by_cases w4 : w = nI 4
    · exact jO_same J (r := nI (lA A 6 p)) (by simp (disch := omega) only [fX0_person, nL, nI_add, nJ_mul, nJ_div, nJ_mod, nI_leI, nI_ltI, nI_eq, Option.bind_some, Option.bind_none, Nat.one_ne_zero, Nat.zero_ne_one, Nat.zero_add, Nat.add_zero, if_true, if_false, not_true_eq_false, not_false_eq_true, e1, c, w4, dx X, gx_I X, gx2 X hl, dl G, gl_I G, gl9 G, xl9 G, gl10 G, xl10 G, gl11 G, xl11 G, gl12 G, xl12 G, gl13 G, xl13 G, gl14 G, xl14 G, gl15 G, xl15 G, gl16 G, xl16 G, gl17 G, xl17 G, gl18 G, xl18 G, gl19 G, xl19 G, gl20 G, xl20 G, gl21 G, xl21 G, R.f0, R.f1, R.f2, R.f3, R.f4, R.f5, R.f6, R.f7, R.f8, rl1 R, rl2 R, rl3 R, rl4 R, rl5 R, rl6 R, rl7 R, rl8 R, rl9 R, rl10 R, rl11 R, Nat.reduceEqDiff]) (by simp (disch := omega) only [fX3_person, nL, nI_add, nJ_mul, nJ_div, nJ_mod, nI_leI, nI_ltI, nI_eq, Option.bind_some, Option.bind_none, Nat.one_ne_zero, Nat.zero_ne_one, Nat.zero_add, Nat.add_zero, if_true, if_false, not_true_eq_false, not_false_eq_true, e2, c, w4, dm M, gm_I M, gm1 M, xm137 M, gm2 M, xm138 M, gm3 M, xm139 M, gm4 M, xm140 M, gm5 M, xm141 M, gm6 M, xm142 M, gm7 M, xm143 M, gm8 M, xm144 M, gm9 M, xm145 M, gm10 M, xm146 M, gm11 M, xm147 M, gm12 M, xm148 M, gm13 M, xm149 M, gm14 M, xm150 M, gm15 M, xm151 M, gm16 M, xm152 M, gm17 M, xm153 M, gm18 M, xm154 M, gm19 M, xm155 M, gm20 M, xm156 M, gm21 M, xm157 M, gm22 M, xm158 M, gm23 M, xm159 M, gm24 M, xm160 M, gm25 M, xm161 M, gm26 M, xm162 M, gm38 M, xm163 M, gm39 M, xm164 M, gm40 M, xm165 M, gm41 M, xm166 M, gm42 M, xm167 M, gm43 M, xm168 M, gm44 M, xm169 M, gm45 M, xm170 M, gm46 M, xm171 M, gm47 M, xm172 M, gm48 M, xm173 M, gm49 M, xm174 M, gm50 M, xm175 M, gm54 M, xm176 M, gm55 M, xm177 M, gm56 M, xm178 M, gm57 M, xm179 M, gm58 M, xm180 M, gm62 M, xm181 M, gm63 M, xm182 M, gm64 M, xm183 M, gm65 M, xm184 M, gm66 M, xm185 M, gm69 M, xm186 M, gm70 M, xm187 M, gm73 M, xm188 M, gm74 M, xm189 M, rmU RM, rm1 RM, rm2 RM, rm3 RM, rm4 RM, rm5 RM, rm6 RM, rm7 RM, rm8 RM, rm9 RM, rm10 RM, rm11 RM, rm12 RM, rm13 RM, rm14 RM, Nat.reduceEqDiff])
    by_cases w5 : w = nI 5
    · exact jO_same J (r := nI (fb_ct (lH A p) 256)) (by simp (disch := omega) only [fX0_person, nL, nI_add, nJ_mul, nJ_div, nJ_mod, nI_leI, nI_ltI, nI_eq, Option.bind_some, Option.bind_none, Nat.one_ne_zero, Nat.zero_ne_one, Nat.zero_add, Nat.add_zero, if_true, if_false, not_true_eq_false, not_false_eq_true, dx X, e1, c, w5, gx2 X hl, dl G, e3, Nat.reduceEqDiff]) (by simp (disch := omega) only [fX3_person, nL, nI_add, nJ_mul, nJ_div, nJ_mod, nI_leI, nI_ltI, nI_eq, Option.bind_some, Option.bind_none, Nat.one_ne_zero, Nat.zero_ne_one, Nat.zero_add, Nat.add_zero, if_true, if_false, not_true_eq_false, not_false_eq_true, dm M, e2, c, w5, e4, Nat.reduceEqDiff])
    by_cases w6 : w = nI 6
    · exact jO_same J (r := nI (fo_ (kfS A p) 0 (lA A 1 0))) (by simp (disch := omega) only [fX0_person, nL, nI_add, nJ_mul, nJ_div, nJ_mod, nI_leI, nI_ltI, nI_eq, Option.bind_some, Option.bind_none, Nat.one_ne_zero, Nat.zero_ne_one, Nat.zero_add, Nat.add_zero, if_true, if_false, not_true_eq_false, not_false_eq_true, dx X, e1, c, w6, e5, Nat.reduceEqDiff]) (by simp (disch := omega) only [fX3_person, nL, nI_add, nJ_mul, nJ_div, nJ_mod, nI_leI, nI_ltI, nI_eq, Option.bind_some, Option.bind_none, Nat.one_ne_zero, Nat.zero_ne_one, Nat.zero_add, Nat.add_zero, if_true, if_false, not_true_eq_false, not_false_eq_true, dm M, e2, c, w6, e6, Nat.reduceEqDiff])
    · exact jO_same J (r := -(nI 1)) (by simp (disch := omega) only [fX0_person, nL, nI_add, nJ_mul, nJ_div, nJ_mod, nI_leI, nI_ltI, nI_eq, Option.bind_some, Option.bind_none, Nat.one_ne_zero, Nat.zero_ne_one, Nat.zero_add, Nat.add_zero, if_true, if_false, not_true_eq_false, not_false_eq_true, dx X, e1, c, w0, w1, w2, w3, w4, w5, w6]) (by simp (disch := omega) only [fX3_person, nL, nI_add, nJ_mul, nJ_div, nJ_mod, nI_leI, nI_ltI, nI_eq, Option.bind_some, Option.bind_none, Nat.one_ne_zero, Nat.zero_ne_one, Nat.zero_add, Nat.add_zero, if_true, if_false, not_true_eq_false, not_false_eq_true, dm M, e2, c, w0, w1, w2, w3, w4, w5, w6])
theorem J_shown (J : jK q I L A T sM) (v : Int32) : jO q I L T sM (fX0_shown 64 v) (fX3_shown 136 v) := by
  obtain ⟨K, B, V⟩ := id J
  obtain ⟨M, RM, hTM, -⟩ := id K
  obtain ⟨X, hT, -, -, W, h24, -⟩ := id B
  have h8 := p2_8 W.1.1
  have e1 := bL_isAsked B v
  have e2 := kE_isSaying (L := L) K v
  have e3 := kE_isLandB (L := L) K
  cases c : inB v sM
  · exact jO_same J (r := -(nI 1)) (by simp (disch := omega) only [fX0_shown, nL, nI_add, nJ_mul, nJ_div, nJ_mod, nI_leI, nI_ltI, nI_eq, Option.bind_some, Option.bind_none, Nat.one_ne_zero, Nat.zero_ne_one, Nat.zero_add, Nat.add_zero, if_true, if_false, not_true_eq_false, not_false_eq_true, dx X, e1, c, Bool.and_false, Bool.false_eq_true]) (by simp (disch := omega) only [fX3_shown, nL, nI_add, nJ_mul, nJ_div, nJ_mod, nI_leI, nI_ltI, nI_eq, Option.bind_some, Option.bind_none, Nat.one_ne_zero, Nat.zero_ne_one, Nat.zero_add, Nat.add_zero, if_true, if_false, not_true_eq_false, not_false_eq_true, dm M, e2, c, Bool.false_eq_true])
  · cases c2 : isL A
    · exact jO_same J (r := -(nI 1)) (by simp (disch := omega) only [fX0_shown, nL, nI_add, nJ_mul, nJ_div, nJ_mod, nI_leI, nI_ltI, nI_eq, Option.bind_some, Option.bind_none, Nat.one_ne_zero, Nat.zero_ne_one, Nat.zero_add, Nat.add_zero, if_true, if_false, not_true_eq_false, not_false_eq_true, dx X, e1, c2, Bool.false_and, Bool.false_eq_true]) (by simp (disch := omega) only [fX3_shown, nL, nI_add, nJ_mul, nJ_div, nJ_mod, nI_leI, nI_ltI, nI_eq, Option.bind_some, Option.bind_none, Nat.one_ne_zero, Nat.zero_ne_one, Nat.zero_add, Nat.add_zero, if_true, if_false, not_true_eq_false, not_false_eq_true, dm M, e2, c, e3, c2, Bool.false_eq_true])
    · obtain ⟨⟨-, G, R, -⟩, hl⟩ := B.K (isL_iff.mp c2)
      obtain ⟨s, hs, rfl⟩ := inB_of c (by omega)
      have ew := bE_worlds (L := L) G R W
      have ew2 := kE_worlds (L := L) K
      obtain ⟨N, hN⟩ : ∃ N, 2 ^ lA A 1 0 = N := ⟨_, rfl⟩
      rw [hN] at h8 ew ew2
      have e5 : fX0_shown_L12 64 (nI s) (nI 0) (hw q I L) = some (match fst_ (fun w => lH A 6 w && !T s w) N with | some i => (nI i, hw q I L) | none => (-(nI 2), hw q I L)) := by
        unfold fX0_shown_L12
        refine whl_find (fun i => (nI i, hw q I L)) (fun w => lH A 6 w && !T s w) N rfl (fun i hi c => ?_) (fun i hi c => ?_) ?_
        · have eH := bE_isHeld (L := L) G R W (who := 6) (Or.inr rfl) (w := i) (by omega)
          have eS := bE_isSo (I := I) (L := L) X hT hs (w := i) (by omega) h24
          cases c3 : lH A 6 i
          · simp (disch := omega) only [fX0_shown_L12_b, fX0_shown_L47, nL, nI_add, nJ_mul, nJ_div, nJ_mod, nI_leI, nI_ltI, nI_eq, Option.bind_some, Option.bind_none, Nat.one_ne_zero, Nat.zero_ne_one, Nat.zero_add, Nat.add_zero, if_true, if_false, not_true_eq_false, not_false_eq_true, gx2 X hl, dl G, ew, eH, c3, show ¬ N ≤ i by omega, Bool.false_eq_true]
          · have c4 : T s i = true := by
              cases d : T s i
              · simp [c3, d] at c
              · rfl
            simp (disch := omega) only [fX0_shown_L12_b, fX0_shown_L47, nL, nI_add, nJ_mul, nJ_div, nJ_mod, nI_leI, nI_ltI, nI_eq, Option.bind_some, Option.bind_none, Nat.one_ne_zero, Nat.zero_ne_one, Nat.zero_add, Nat.add_zero, if_true, if_false, not_true_eq_false, not_false_eq_true, gx2 X hl, dl G, dx X, ew, eH, c3, eS, c4, show ¬ N ≤ i by omega]
        · have eH := bE_isHeld (L := L) G R W (who := 6) (Or.inr rfl) (w := i) (by omega)
          have eS := bE_isSo (I := I) (L := L) X hT hs (w := i) (by omega) h24
          rw [Bool.and_eq_true, Bool.not_eq_true'] at c
          simp (disch := omega) only [fX0_shown_L12_b, fX0_shown_L47, nL, nI_add, nJ_mul, nJ_div, nJ_mod, nI_leI, nI_ltI, nI_eq, Option.bind_some, Option.bind_none, Nat.one_ne_zero, Nat.zero_ne_one, Nat.zero_add, Nat.add_zero, if_true, if_false, not_true_eq_false, not_false_eq_true, gx2 X hl, dl G, dx X, ew, eH, c.1, eS, c.2, show ¬ N ≤ i by omega, Bool.false_eq_true, xr_s]
        · simp (disch := omega) only [fX0_shown_L12_b, nL, nI_add, nJ_mul, nJ_div, nJ_mod, nI_leI, nI_ltI, nI_eq, Option.bind_some, Option.bind_none, Nat.one_ne_zero, Nat.zero_ne_one, Nat.zero_add, Nat.add_zero, if_true, if_false, not_true_eq_false, not_false_eq_true, gx2 X hl, dl G, ew, Nat.le_refl, xr_s]
      have e6 : fX3_shown_L19 136 (nI s) (nI 0) (hw q I L) = some (match fst_ (fun w => lH A 6 w && !T s w) N with | some i => (nI i, hw q I L) | none => (-(nI 2), hw q I L)) := by
        unfold fX3_shown_L19
        refine whl_find (fun i => (nI i, hw q I L)) (fun w => lH A 6 w && !T s w) N rfl (fun i hi c => ?_) (fun i hi c => ?_) ?_
        · have eH := mE_isHeld (L := L) M RM (who := 6) (Or.inr rfl) (w := i) (by omega) W
          have eS := mE_isSo (I := I) (L := L) M hTM hs (w := i) (by omega) h24
          cases c3 : lH A 6 i
          · simp (disch := omega) only [fX3_shown_L19_b, fX3_shown_L48, nL, nI_add, nJ_mul, nJ_div, nJ_mod, nI_leI, nI_ltI, nI_eq, Option.bind_some, Option.bind_none, Nat.one_ne_zero, Nat.zero_ne_one, Nat.zero_add, Nat.add_zero, if_true, if_false, not_true_eq_false, not_false_eq_true, dm M, ew2, eH, c3, show ¬ N ≤ i by omega, Bool.false_eq_true]
          · have c4 : T s i = true := by
              cases d : T s i
              · simp [c3, d] at c
              · rfl
            simp (disch := omega) only [fX3_shown_L19_b, fX3_shown_L48, nL, nI_add, nJ_mul, nJ_div, nJ_mod, nI_leI, nI_ltI, nI_eq, Option.bind_some, Option.bind_none, Nat.one_ne_zero, Nat.zero_ne_one, Nat.zero_add, Nat.add_zero, if_true, if_false, not_true_eq_false, not_false_eq_true, dm M, ew2, eH, c3, eS, c4, show ¬ N ≤ i by omega]
        · have eH := mE_isHeld (L := L) M RM (who := 6) (Or.inr rfl) (w := i) (by omega) W
          have eS := mE_isSo (I := I) (L := L) M hTM hs (w := i) (by omega) h24
          rw [Bool.and_eq_true, Bool.not_eq_true'] at c
          simp (disch := omega) only [fX3_shown_L19_b, fX3_shown_L48, nL, nI_add, nJ_mul, nJ_div, nJ_mod, nI_leI, nI_ltI, nI_eq, Option.bind_some, Option.bind_none, Nat.one_ne_zero, Nat.zero_ne_one, Nat.zero_add, Nat.add_zero, if_true, if_false, not_true_eq_false, not_false_eq_true, dm M, ew2, eH, c.1, eS, c.2, show ¬ N ≤ i by omega, Bool.false_eq_true, xr_s]
        · simp (disch := omega) only [fX3_shown_L19_b, nL, nI_add, nJ_mul, nJ_div, nJ_mod, nI_leI, nI_ltI, nI_eq, Option.bind_some, Option.bind_none, Nat.one_ne_zero, Nat.zero_ne_one, Nat.zero_add, Nat.add_zero, if_true, if_false, not_true_eq_false, not_false_eq_true, dm M, ew2, Nat.le_refl, xr_s]
      generalize fst_ (fun w => lH A 6 w && !T s w) N = o at e5 e6
      refine jO_same J (r := match o with | some i => nI i | none => -(nI 2)) ?_ ?_
      · cases o <;> simp (disch := omega) only [fX0_shown, nL, nI_add, nJ_mul, nJ_div, nJ_mod, nI_leI, nI_ltI, nI_eq, Option.bind_some, Option.bind_none, Nat.one_ne_zero, Nat.zero_ne_one, Nat.zero_add, Nat.add_zero, if_true, if_false, not_true_eq_false, not_false_eq_true, dx X, e1, c, c2, Bool.and_self, e5]
      · cases o <;> simp (disch := omega) only [fX3_shown, nL, nI_add, nJ_mul, nJ_div, nJ_mod, nI_leI, nI_ltI, nI_eq, Option.bind_some, Option.bind_none, Nat.one_ne_zero, Nat.zero_ne_one, Nat.zero_add, Nat.add_zero, if_true, if_false, not_true_eq_false, not_false_eq_true, dm M, e2, c, c2, e3, e6]
theorem J_opposite (J : jK q I L A T sM) (v w : Int32) : jO q I L T sM (fX0_opposite 64 v w) (fX3_opposite 136 v w) := by
  obtain ⟨K, B, V⟩ := id J
  obtain ⟨M, RM, hTM, -⟩ := id K
  obtain ⟨X, hT, -, -, W, h24, -⟩ := id B
  have h8 := p2_8 W.1.1
  have e1 := bL_isAsked B v
  have e1' := bL_isAsked B w
  have e2 := kE_isSaying (L := L) K v
  have e2' := kE_isSaying (L := L) K w
  have e3 := kE_isLandB (L := L) K
  cases c : inB v sM
  · exact jO_same J (r := -(nI 1)) (by simp (disch := omega) only [fX0_opposite, nL, nI_add, nJ_mul, nJ_div, nJ_mod, nI_leI, nI_ltI, nI_eq, Option.bind_some, Option.bind_none, Nat.one_ne_zero, Nat.zero_ne_one, Nat.zero_add, Nat.add_zero, if_true, if_false, not_true_eq_false, not_false_eq_true, dx X, e1, c, Bool.and_false, Bool.false_eq_true]) (by simp (disch := omega) only [fX3_opposite, nL, nI_add, nJ_mul, nJ_div, nJ_mod, nI_leI, nI_ltI, nI_eq, Option.bind_some, Option.bind_none, Nat.one_ne_zero, Nat.zero_ne_one, Nat.zero_add, Nat.add_zero, if_true, if_false, not_true_eq_false, not_false_eq_true, dm M, e2, c, Bool.false_eq_true])
  · cases c1 : inB w sM
    · refine jO_same J (r := -(nI 1)) ?_ (by simp (disch := omega) only [fX3_opposite, nL, nI_add, nJ_mul, nJ_div, nJ_mod, nI_leI, nI_ltI, nI_eq, Option.bind_some, Option.bind_none, Nat.one_ne_zero, Nat.zero_ne_one, Nat.zero_add, Nat.add_zero, if_true, if_false, not_true_eq_false, not_false_eq_true, dm M, e2, c, e2', c1, Bool.false_eq_true])
      cases c2 : isL A
      · simp (disch := omega) only [fX0_opposite, nL, nI_add, nJ_mul, nJ_div, nJ_mod, nI_leI, nI_ltI, nI_eq, Option.bind_some, Option.bind_none, Nat.one_ne_zero, Nat.zero_ne_one, Nat.zero_add, Nat.add_zero, if_true, if_false, not_true_eq_false, not_false_eq_true, dx X, e1, c2, Bool.false_and, Bool.false_eq_true]
      · simp (disch := omega) only [fX0_opposite, nL, nI_add, nJ_mul, nJ_div, nJ_mod, nI_leI, nI_ltI, nI_eq, Option.bind_some, Option.bind_none, Nat.one_ne_zero, Nat.zero_ne_one, Nat.zero_add, Nat.add_zero, if_true, if_false, not_true_eq_false, not_false_eq_true, dx X, e1, c, c2, e1', c1, Bool.and_self, Bool.and_false, Bool.false_eq_true]
    · by_cases c3 : v = w
      · refine jO_same J (r := -(nI 1)) ?_ (by simp (disch := omega) only [fX3_opposite, nL, nI_add, nJ_mul, nJ_div, nJ_mod, nI_leI, nI_ltI, nI_eq, Option.bind_some, Option.bind_none, Nat.one_ne_zero, Nat.zero_ne_one, Nat.zero_add, Nat.add_zero, if_true, if_false, not_true_eq_false, not_false_eq_true, dm M, e2, c, e2', c1, c3])
        cases c2 : isL A
        · simp (disch := omega) only [fX0_opposite, nL, nI_add, nJ_mul, nJ_div, nJ_mod, nI_leI, nI_ltI, nI_eq, Option.bind_some, Option.bind_none, Nat.one_ne_zero, Nat.zero_ne_one, Nat.zero_add, Nat.add_zero, if_true, if_false, not_true_eq_false, not_false_eq_true, dx X, e1, c2, Bool.false_and, Bool.false_eq_true]
        · simp (disch := omega) only [fX0_opposite, nL, nI_add, nJ_mul, nJ_div, nJ_mod, nI_leI, nI_ltI, nI_eq, Option.bind_some, Option.bind_none, Nat.one_ne_zero, Nat.zero_ne_one, Nat.zero_add, Nat.add_zero, if_true, if_false, not_true_eq_false, not_false_eq_true, dx X, e1, c, c2, e1', c1, Bool.and_self, c3]
      · cases c2 : isL A
        · exact jO_same J (r := -(nI 1)) (by simp (disch := omega) only [fX0_opposite, nL, nI_add, nJ_mul, nJ_div, nJ_mod, nI_leI, nI_ltI, nI_eq, Option.bind_some, Option.bind_none, Nat.one_ne_zero, Nat.zero_ne_one, Nat.zero_add, Nat.add_zero, if_true, if_false, not_true_eq_false, not_false_eq_true, dx X, e1, c2, Bool.false_and, Bool.false_eq_true]) (by simp (disch := omega) only [fX3_opposite, nL, nI_add, nJ_mul, nJ_div, nJ_mod, nI_leI, nI_ltI, nI_eq, Option.bind_some, Option.bind_none, Nat.one_ne_zero, Nat.zero_ne_one, Nat.zero_add, Nat.add_zero, if_true, if_false, not_true_eq_false, not_false_eq_true, dm M, e2, c, e2', c1, c3, e3, c2, Bool.false_eq_true])
        · obtain ⟨⟨-, G, R, -⟩, hl⟩ := B.K (isL_iff.mp c2)
          obtain ⟨s, hs, rfl⟩ := inB_of c (by omega)
          obtain ⟨u, hu, rfl⟩ := inB_of c1 (by omega)
          have ew := bE_worlds (L := L) G R W
          have ew2 := kE_worlds (L := L) K
          obtain ⟨N, hN⟩ : ∃ N, 2 ^ lA A 1 0 = N := ⟨_, rfl⟩
          rw [hN] at h8 ew ew2
          have e5 : fX0_opposite_L25 64 (nI s) (nI u) (nI 0) (hw q I L) = some (if anyB (fun w => T s w && T u w) N then (nI 0, hw q I L) else (nI 1, hw q I L)) := by
            unfold fX0_opposite_L25
            refine whl_any (fun i => (nI i, hw q I L)) _ N rfl (fun i hi c => ?_) (fun i hi c => ?_) ?_
            · have eS := bE_isSo (I := I) (L := L) X hT hs (w := i) (by omega) h24
              have eU := bE_isSo (I := I) (L := L) X hT hu (w := i) (by omega) h24
              cases c4 : T s i
              · simp (disch := omega) only [fX0_opposite_L25_b, fX0_opposite_L56, nL, nI_add, nJ_mul, nJ_div, nJ_mod, nI_leI, nI_ltI, nI_eq, Option.bind_some, Option.bind_none, Nat.one_ne_zero, Nat.zero_ne_one, Nat.zero_add, Nat.add_zero, if_true, if_false, not_true_eq_false, not_false_eq_true, gx2 X hl, dl G, dx X, ew, eS, c4, show ¬ N ≤ i by omega, Bool.false_eq_true]
              · have c5 : T u i = false := by simpa [c4] using c
                simp (disch := omega) only [fX0_opposite_L25_b, fX0_opposite_L56, nL, nI_add, nJ_mul, nJ_div, nJ_mod, nI_leI, nI_ltI, nI_eq, Option.bind_some, Option.bind_none, Nat.one_ne_zero, Nat.zero_ne_one, Nat.zero_add, Nat.add_zero, if_true, if_false, not_true_eq_false, not_false_eq_true, gx2 X hl, dl G, dx X, ew, eS, c4, eU, c5, show ¬ N ≤ i by omega, Bool.false_eq_true]
            · have eS := bE_isSo (I := I) (L := L) X hT hs (w := i) (by omega) h24
              have eU := bE_isSo (I := I) (L := L) X hT hu (w := i) (by omega) h24
              rw [Bool.and_eq_true] at c
              simp (disch := omega) only [fX0_opposite_L25_b, fX0_opposite_L56, nL, nI_add, nJ_mul, nJ_div, nJ_mod, nI_leI, nI_ltI, nI_eq, Option.bind_some, Option.bind_none, Nat.one_ne_zero, Nat.zero_ne_one, Nat.zero_add, Nat.add_zero, if_true, if_false, not_true_eq_false, not_false_eq_true, gx2 X hl, dl G, dx X, ew, eS, c.1, eU, c.2, show ¬ N ≤ i by omega, xr_s]
            · simp (disch := omega) only [fX0_opposite_L25_b, nL, nI_add, nJ_mul, nJ_div, nJ_mod, nI_leI, nI_ltI, nI_eq, Option.bind_some, Option.bind_none, Nat.one_ne_zero, Nat.zero_ne_one, Nat.zero_add, Nat.add_zero, if_true, if_false, not_true_eq_false, not_false_eq_true, gx2 X hl, dl G, ew, Nat.le_refl, xr_s]
          have e6 : fX3_opposite_L32 136 (nI s) (nI u) (nI 0) (hw q I L) = some (if anyB (fun w => T s w && T u w) N then (nI 0, hw q I L) else (nI 1, hw q I L)) := by
            unfold fX3_opposite_L32
            refine whl_any (fun i => (nI i, hw q I L)) _ N rfl (fun i hi c => ?_) (fun i hi c => ?_) ?_
            · have eS := mE_isSo (I := I) (L := L) M hTM hs (w := i) (by omega) h24
              have eU := mE_isSo (I := I) (L := L) M hTM hu (w := i) (by omega) h24
              cases c4 : T s i
              · simp (disch := omega) only [fX3_opposite_L32_b, fX3_opposite_L60, nL, nI_add, nJ_mul, nJ_div, nJ_mod, nI_leI, nI_ltI, nI_eq, Option.bind_some, Option.bind_none, Nat.one_ne_zero, Nat.zero_ne_one, Nat.zero_add, Nat.add_zero, if_true, if_false, not_true_eq_false, not_false_eq_true, dm M, ew2, eS, c4, show ¬ N ≤ i by omega, Bool.false_eq_true]
              · have c5 : T u i = false := by simpa [c4] using c
                simp (disch := omega) only [fX3_opposite_L32_b, fX3_opposite_L60, nL, nI_add, nJ_mul, nJ_div, nJ_mod, nI_leI, nI_ltI, nI_eq, Option.bind_some, Option.bind_none, Nat.one_ne_zero, Nat.zero_ne_one, Nat.zero_add, Nat.add_zero, if_true, if_false, not_true_eq_false, not_false_eq_true, dm M, ew2, eS, c4, eU, c5, show ¬ N ≤ i by omega, Bool.false_eq_true]
            · have eS := mE_isSo (I := I) (L := L) M hTM hs (w := i) (by omega) h24
              have eU := mE_isSo (I := I) (L := L) M hTM hu (w := i) (by omega) h24
              rw [Bool.and_eq_true] at c
              simp (disch := omega) only [fX3_opposite_L32_b, fX3_opposite_L60, nL, nI_add, nJ_mul, nJ_div, nJ_mod, nI_leI, nI_ltI, nI_eq, Option.bind_some, Option.bind_none, Nat.one_ne_zero, Nat.zero_ne_one, Nat.zero_add, Nat.add_zero, if_true, if_false, not_true_eq_false, not_false_eq_true, dm M, ew2, eS, c.1, eU, c.2, show ¬ N ≤ i by omega, xr_s]
            · simp (disch := omega) only [fX3_opposite_L32_b, nL, nI_add, nJ_mul, nJ_div, nJ_mod, nI_leI, nI_ltI, nI_eq, Option.bind_some, Option.bind_none, Nat.one_ne_zero, Nat.zero_ne_one, Nat.zero_add, Nat.add_zero, if_true, if_false, not_true_eq_false, not_false_eq_true, dm M, ew2, Nat.le_refl, xr_s]
          cases c6 : anyB (fun w => T s w && T u w) N
          · rw [c6] at e5 e6
            simp only [Bool.false_eq_true, if_false] at e5 e6
            exact jO_same J (r := nI 1) (by simp (disch := omega) only [fX0_opposite, nL, nI_add, nJ_mul, nJ_div, nJ_mod, nI_leI, nI_ltI, nI_eq, Option.bind_some, Option.bind_none, Nat.one_ne_zero, Nat.zero_ne_one, Nat.zero_add, Nat.add_zero, if_true, if_false, not_true_eq_false, not_false_eq_true, dx X, e1, c, c2, e1', c1, c3, e5, Bool.and_self]) (by simp (disch := omega) only [fX3_opposite, nL, nI_add, nJ_mul, nJ_div, nJ_mod, nI_leI, nI_ltI, nI_eq, Option.bind_some, Option.bind_none, Nat.one_ne_zero, Nat.zero_ne_one, Nat.zero_add, Nat.add_zero, if_true, if_false, not_true_eq_false, not_false_eq_true, dm M, e2, c, e2', c1, c3, c2, e3, e6])
          · rw [c6] at e5 e6
            simp only [if_true] at e5 e6
            exact jO_same J (r := nI 0) (by simp (disch := omega) only [fX0_opposite, nL, nI_add, nJ_mul, nJ_div, nJ_mod, nI_leI, nI_ltI, nI_eq, Option.bind_some, Option.bind_none, Nat.one_ne_zero, Nat.zero_ne_one, Nat.zero_add, Nat.add_zero, if_true, if_false, not_true_eq_false, not_false_eq_true, dx X, e1, c, c2, e1', c1, c3, e5, Bool.and_self]) (by simp (disch := omega) only [fX3_opposite, nL, nI_add, nJ_mul, nJ_div, nJ_mod, nI_leI, nI_ltI, nI_eq, Option.bind_some, Option.bind_none, Nat.one_ne_zero, Nat.zero_ne_one, Nat.zero_add, Nat.add_zero, if_true, if_false, not_true_eq_false, not_false_eq_true, dm M, e2, c, e2', c1, c3, c2, e3, e6])
end JB
