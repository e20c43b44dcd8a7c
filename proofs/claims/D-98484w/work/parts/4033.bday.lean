/-! P2 BDAY: TruthBridge: a day goes -/
theorem xor_xor (w a : Nat) : (w ^^^ a) ^^^ a = w := by rw [Nat.xor_assoc, Nat.xor_self, Nat.xor_zero]
section BDY
variable {q : ph_t} {I : iF} {L : lF_} {A : ld_t} {T : Nat → Nat → Bool} {sM g : Nat}
theorem bE_fgAll (G : GS q g) {m t f : Nat} (hm : m ≤ 6) (h2 : I g 2 = nI m) (ht : t < 8) (h8 : I (g + 8) t = nI f) (hf : f < 8) {B : Nat → Nat → Bool} (hB : ∀ who, (who < m ∨ who = 6) → rL_ (L (g + 11)) (4 * who) (B who)) :
    ∃ L', fX1_dayGoes_L85 g (nI t) (nI 0) (hw q I L) = some (.inl (nI (t + 1), hw q I L')) ∧ (∀ a, a ≠ g + 11 → L' a = L a) ∧ ∀ who, (who < m ∨ who = 6) → rL_ (L' (g + 11)) (4 * who) (fun w => B who w || B who (w ^^^ 2 ^ f)) := by
  unfold fX1_dayGoes_L85
  have : ∃ z, whl (fun s_1 : Int32 × ph_t => fX1_dayGoes_L85_b g (nI t) s_1.1 s_1.2) (nI 0, hw q I L) = some z ∧ ∃ L', z = .inl (nI (t + 1), hw q I L') ∧ (∀ a, a ≠ g + 11 → L' a = L a) ∧ ∀ who, (who < m ∨ who = 6) → rL_ (L' (g + 11)) (4 * who) (fun w => B who w || B who (w ^^^ 2 ^ f)) := by
    refine whl_st (α := lF_) (fun i J => (nI i, hw q I J)) (fun i J => (∀ a, a ≠ g + 11 → J a = L a) ∧ ∀ who, (who < m ∨ who = 6) → rL_ (J (g + 11)) (4 * who) (fun w => if who < i then B who w || B who (w ^^^ 2 ^ f) else B who w)) m (a := L) rfl ⟨fun _ _ => rfl, fun who hq => rL_cong (hB who hq) fun w _ => by rw [if_neg (by omega)]⟩ ?_ ?_
    · rintro i J hi ⟨f1, f2⟩
      obtain ⟨J', e1, e2, e3⟩ := bE_forgets (I := I) (L := J) (f := f) G (who := i) (by omega) hf (B := B i) (rL_cong (f2 i (Or.inl hi)) fun w _ => by rw [if_neg (by omega)])
      refine ⟨J', by simp (disch := omega) only [fX1_dayGoes_L85_b, nL, nI_add, nJ_mul, nJ_div, nJ_mod, nI_leI, nI_ltI, nI_eq, Option.bind_some, Option.bind_none, Nat.one_ne_zero, Nat.zero_ne_one, Nat.zero_add, Nat.add_zero, if_true, if_false, not_true_eq_false, not_false_eq_true, gg_I G, h2, gg16 G, xg16 G, h8, dg G, e1, show ¬ m ≤ i by omega], fun a ha => (e2.1 a ha).trans (f1 a ha), fun who hq => ?_⟩
      by_cases c : who = i
      · subst c
        exact rL_cong e3 fun w _ => by rw [if_pos (by omega)]
      · intro w hw_
        rw [e2.2 _ (by omega), f2 who hq w hw_]
        dsimp only
        by_cases c2 : who < i
        · rw [if_pos c2, if_pos (by omega)]
        · rw [if_neg c2, if_neg (by omega)]
    · rintro J ⟨f1, f2⟩
      obtain ⟨J', e1, e2, e3⟩ := bE_forgets (I := I) (L := J) (f := f) G (who := 6) (by omega) hf (B := B 6) (rL_cong (f2 6 (Or.inr rfl)) fun w _ => by rw [if_neg (by omega)])
      refine ⟨_, by simp (disch := omega) only [fX1_dayGoes_L85_b, fX1_dayGoes_L122, nL, nI_add, nJ_mul, nJ_div, nJ_mod, nI_leI, nI_ltI, nI_eq, Option.bind_some, Option.bind_none, Nat.one_ne_zero, Nat.zero_ne_one, Nat.zero_add, Nat.add_zero, if_true, if_false, not_true_eq_false, not_false_eq_true, gg_I G, h2, gg16 G, xg16 G, h8, dg G, e1, Nat.le_refl, xr_s] <;> rfl, J', rfl, fun a ha => (e2.1 a ha).trans (f1 a ha), fun who hq => ?_⟩
      by_cases c : who = 6
      · subst c
        exact e3
      · intro w hw_
        rw [e2.2 _ (by omega), f2 who hq w hw_]
        dsimp only
        rw [if_pos (by omega)]
  obtain ⟨z, h1, L', rfl, h2⟩ := this
  exact ⟨L', h1, h2⟩
theorem bK_turn (K : bK q g I L A T sM) {t : Nat} (ht : t < lA A 1 5) : ∃ I' L', fX1_dayGoes_L42_b g (nI t) (hw q I L) = some (.inl (nI (t + 1), hw q I' L')) ∧ frG g I I' ∧ frH g L L' ∧ bK q g I' L' (a_turn A t) T sM := by
  have K0 := K
  obtain ⟨X, G, R, hT, hsM, hW, h24, hg⟩ := K
  have h5 := hW.1.2.2.2.2.2.1
  have h8 := p2_8 hW.1.1
  have hn8 := hW.1.1
  have hm6 := hW.1.2.2.1
  have hso := hW.1.2.1
  have hdy := hW.1.2.2.2.2.2.2.1
  obtain ⟨t1, t2⟩ := hW.2.2.2.2.1 t ht
  have ef := nJ_shl (k := lA A 11 t) (by omega)
  rw [nL 1] at ef
  unfold a_turn
  by_cases c : lA A 12 t = lA A 1 6
  · rw [if_pos c]
    have W2 : lW (lSet A 1 1 (lA A 1 1 ^^^ 2 ^ lA A 11 t)) := lW_so hW (Nat.xor_lt_two_pow hso (Nat.pow_lt_pow_right (by decide) t1))
    obtain ⟨L3, e1, e2, e3⟩ := bE_fgAll (I := ph_u I g 1 (nI (lA A 1 1 ^^^ 2 ^ lA A 11 t))) (L := L) (t := t) G hm6 (by rw [pu_nk (by decide)]; exact R.f2) (by omega) (by rw [pu_ne (by omega)]; exact R.p8 ht) (by omega) (fun who hq => R.hd hq)
    refine ⟨ph_u I g 1 (nI (lA A 1 1 ^^^ 2 ^ lA A 11 t)), L3, ?_, frG.rf.up (by omega), fun a ha => e2 a (by omega), K0.next (frG.rf.up (by omega)) (fun a ha => e2 a (by omega)) (glR_SD (glS_cong R.S (fun j j1 _ => by rw [pu_nk j1]) (fun a ha => by rw [pu_ne (by omega)]) (e2 _ (by omega)) (fun f i h => ?_) rfl) ⟨?_, ?_, fun p hp => ?_, fun who hq => ?_⟩) ?_⟩
    · simp (disch := omega) only [fX1_dayGoes_L42_b, nL, nI_add, nJ_mul, nJ_div, nJ_mod, nI_leI, nI_ltI, nI_eq, Option.bind_some, Option.bind_none, Nat.one_ne_zero, Nat.zero_ne_one, Nat.zero_add, Nat.add_zero, if_true, if_false, not_true_eq_false, not_false_eq_true, gg_I G, sg_I G, R.f5, gg17 G, xg17 G, R.p9 ht, R.f6, R.f1, c, gg16 G, xg16 G, R.p8 ht, ef, nJ_xor, e1, show ¬ lA A 1 5 ≤ t by omega]
    · show lA (lSet A 1 1 _) f i = _
      rw [lSet_A, if_neg h.2.2.2.1]
    · rw [pu_eq]; rfl
    · rw [pu_nk (by decide)]; exact R.f6
    · rw [pu_ne (by omega), pu_ne (by omega), pu_ne (by omega)]
      exact R.D.2.2.1 p hp
    · refine rL_cong (e3 who hq) fun w _ => ?_
      show _ = (decide (w < 2 ^ lA A 1 0) && (lH A who w || lH A who (w ^^^ 2 ^ lA A 11 t)))
      by_cases c2 : w < 2 ^ lA A 1 0
      · rw [decide_eq_true c2, Bool.true_and]
      · rw [decide_eq_false c2, Bool.false_and]
        cases d1 : lH A who w
        · cases d2 : lH A who (w ^^^ 2 ^ lA A 11 t)
          · rfl
          · have := hW.2.2.2.2.2 who _ hq d2
            have := xor_lt8 this t1
            rw [xor_xor] at this
            exact absurd this c2
        · exact absurd (hW.2.2.2.2.2 who w hq d1) c2
    · obtain ⟨w1, w2, w3, w4, w5, w6⟩ := W2
      refine ⟨w1, w2, w3, w4, w5, fun who w hq hb => ?_⟩
      replace hb : (decide (w < 2 ^ lA A 1 0) && (lH A who w || lH A who (w ^^^ 2 ^ lA A 11 t))) = true := hb
      rw [Bool.and_eq_true] at hb
      exact of_decide_eq_true hb.1
  · rw [if_neg c]
    refine ⟨I, L, ?_, frG.rf, frH.rf, K0⟩
    simp (disch := omega) only [fX1_dayGoes_L42_b, fX1_dayGoes_L122, nL, nI_add, nJ_mul, nJ_div, nJ_mod, nI_leI, nI_ltI, nI_eq, Option.bind_some, Option.bind_none, Nat.one_ne_zero, Nat.zero_ne_one, Nat.zero_add, Nat.add_zero, if_true, if_false, not_true_eq_false, not_false_eq_true, gg_I G, R.f5, gg17 G, xg17 G, R.p9 ht, R.f6, c, show ¬ lA A 1 5 ≤ t by omega]
theorem bK_turns (K : bK q g I L A T sM) : ∃ I' L', fX1_dayGoes_L42 g (nI 0) (hw q I L) = some ((), hw q I' L') ∧ frG g I I' ∧ frH g L L' ∧ bK q g I' L' (a_turns A (lA A 1 5)) T sM := by
  unfold fX1_dayGoes_L42
  have : ∃ t, whl (fun s_1 : Int32 × ph_t => fX1_dayGoes_L42_b g s_1.1 s_1.2) (nI 0, hw q I L) = some t ∧ ∃ I' L', t = ((), hw q I' L') ∧ frG g I I' ∧ frH g L L' ∧ bK q g I' L' (a_turns A (lA A 1 5)) T sM := by
    refine whl_st (α := iF × lF_) (fun i J => (nI i, hw q J.1 J.2)) (fun i J => frG g I J.1 ∧ frH g L J.2 ∧ bK q g J.1 J.2 (a_turns A i) T sM) (lA A 1 5) (a := (I, L)) rfl ⟨frG.rf, frH.rf, K⟩ ?_ ?_
    · rintro i ⟨J, M⟩ hi ⟨f1, f2, f3⟩
      have e5 : lA (a_turns A i) 1 5 = lA A 1 5 := a_turns_A (by omega) i
      obtain ⟨J', M', e1, e2, e3, e4⟩ := bK_turn (L := M) f3 (t := i) (by omega)
      exact ⟨(J', M'), e1, f1.tr e2, f2.tr e3, e4⟩
    · rintro ⟨J, M⟩ ⟨f1, f2, f3⟩
      dsimp only at f1 f2 f3
      have e5 : lA (a_turns A (lA A 1 5)) 1 5 = lA A 1 5 := a_turns_A (by omega) _
      have G := f3.2.1
      have b5 := f3.2.2.2.2.2.1.1.2.2.2.2.2.1
      exact ⟨_, by simp (disch := omega) only [fX1_dayGoes_L42_b, nL, nI_add, nJ_mul, nJ_div, nJ_mod, nI_leI, nI_ltI, nI_eq, Option.bind_some, Option.bind_none, Nat.one_ne_zero, Nat.zero_ne_one, Nat.zero_add, Nat.add_zero, if_true, if_false, not_true_eq_false, not_false_eq_true, gg_I G, f3.2.2.1.f5, e5, Nat.le_refl, xr_s] <;> rfl, J, M, rfl, f1, f2, f3⟩
  obtain ⟨t, h1, I', L', rfl, h2⟩ := this
  exact ⟨I', L', h1, h2⟩
theorem bK_dayGoes (K : bK q g I L A T sM) (hd : lA A 1 6 < 20000) : ∃ I' L', fX1_dayGoes g (hw q I L) = some ((), hw q I' L') ∧ frG g I I' ∧ frH g L L' ∧ bK q g I' L' (a_day A) T sM := by
  have K0 := K
  obtain ⟨X, G, R, hT, hsM, hW, h24, hg⟩ := K
  have h6 := hW.1.2.2.1
  have st : ∃ t, fX1_dayGoes_L12 g (nI 0) (hw q (ph_u I g 6 (nI (lA A 1 6 + 1))) L) = some t ∧ ∃ I' L', t = ((), hw q I' L') ∧ frG g I I' ∧ frH g L L' ∧ bK q g I' L' (a_day A) T sM := by
    unfold fX1_dayGoes_L12
    refine whl_st (α := iF) (fun i J => (nI i, hw q J L)) (fun i J => (∀ a, a ≠ g → a ≠ g + 4 → a ≠ g + 5 → J a = I a) ∧ (∀ j, J g j = if j = 6 then nI (lA A 1 6 + 1) else I g j) ∧ ∀ k, k < i → J (g + 4) k = nI 0 ∧ J (g + 5) k = nI 0) (lA A 1 2) (a := _) rfl ⟨fun a a1 _ _ => pu_ne a1, fun j => pu_at, fun k hk => by omega⟩ ?_ ?_
    · rintro i J hi ⟨f1, f2, f3⟩
      have e2 : J g 2 = nI (lA A 1 2) := by rw [f2, if_neg (by decide)]; exact R.f2
      refine ⟨_, by simp (disch := omega) only [fX1_dayGoes_L12_b, nL, nI_add, nJ_mul, nJ_div, nJ_mod, nI_leI, nI_ltI, nI_eq, Option.bind_some, Option.bind_none, Nat.one_ne_zero, Nat.zero_ne_one, Nat.zero_add, Nat.add_zero, if_true, if_false, not_true_eq_false, not_false_eq_true, gg_I G, e2, gg12 G, gg13 G, yg12 G, yg13 G, show ¬ lA A 1 2 ≤ i by omega] <;> rfl, fun a a1 a2 a3 => by rw [pu_ne a3, pu_ne a2]; exact f1 a a1 a2 a3, fun j => by rw [pu_ne (by omega), pu_ne (by omega)]; exact f2 j, fun k hk => ?_⟩
      rw [pu_ne (show g + 4 ≠ g + 5 by omega), pu_at, pu_at, pu_ne (show g + 5 ≠ g + 4 by omega)]
      by_cases c2 : k = i
      · rw [if_pos c2, if_pos c2]
        exact ⟨rfl, rfl⟩
      · rw [if_neg c2, if_neg c2]
        exact f3 k (by omega)
    · rintro J ⟨f1, f2, f3⟩
      have e2 : J g 2 = nI (lA A 1 2) := by rw [f2, if_neg (by decide)]; exact R.f2
      have fr : frG g I J := fun a ha => f1 a (by omega) (by omega) (by omega)
      have ea : ∀ f i, stF f i → lA (a_day0 A) f i = lA A f i := fun f i h => by
        show (if f = 1 ∧ i = 6 then _ else if f = 5 ∨ f = 6 then 0 else _) = _
        rw [if_neg h.2.2.2.2.1, if_neg (fun z => z.elim h.2.1 h.2.2.1)]
        rfl
      have K6 : bK q g J L (a_day0 A) T sM := K0.next fr frH.rf (glR_SD (glS_cong R.S (fun j _ j6 => by rw [f2, if_neg j6]) (fun a ha => f1 a (by omega) (by omega) (by omega)) rfl ea rfl) ⟨by rw [f2, if_neg (by decide)]; exact R.f1, by rw [f2, if_pos rfl]; rfl, fun p hp => ⟨by rw [f1 _ (by omega) (by omega) (by omega)]; exact R.p1 hp, (f3 p hp).1, (f3 p hp).2⟩, R.D.2.2.2⟩) (lW_day0 hW hd)
      obtain ⟨I2, L2, e1, e3, e4, e5⟩ := bK_turns (L := L) K6
      exact ⟨_, by simp (disch := omega) only [fX1_dayGoes_L12_b, nL, nI_add, nJ_mul, nJ_div, nJ_mod, nI_leI, nI_ltI, nI_eq, Option.bind_some, Option.bind_none, Nat.one_ne_zero, Nat.zero_ne_one, Nat.zero_add, Nat.add_zero, if_true, if_false, not_true_eq_false, not_false_eq_true, gg_I G, e2, Nat.le_refl, e1, xr_s] <;> rfl, I2, L2, rfl, fr.tr e3, e4, e5⟩
  obtain ⟨t, e1, I', L', rfl, e2, e3, e4⟩ := st
  refine ⟨I', L', ?_, e2, e3, e4⟩
  simp (disch := omega) only [fX1_dayGoes, nL, nI_add, nJ_mul, nJ_div, nJ_mod, nI_leI, nI_ltI, nI_eq, Option.bind_some, Option.bind_none, Nat.one_ne_zero, Nat.zero_ne_one, Nat.zero_add, Nat.add_zero, if_true, if_false, not_true_eq_false, not_false_eq_true, gg_I G, sg_I G, R.f6, e1]
end BDY
