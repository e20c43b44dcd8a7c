/-! P2 JSTATE: both programs at once; what a call leaves alone -/
/-- nothing is told of a land -/
def lBl (A : ld_t) : Prop := (∀ j, j < 8 → lA A 1 j = 0) ∧ lA A 0 0 = 0
/-- what a call of TruthBridge leaves alone -/
def frX (I I' : iF) : Prop := (∀ a, (a < 64 ∨ a = 65 ∨ (94 ≤ a ∧ a ≤ 127) ∨ 135 ≤ a) → I' a = I a) ∧ ∀ j, j ≠ 7 → j ≠ 18 → j ≠ 22 → j ≠ 25 → j ≠ 26 → j ≠ 27 → j ≠ 28 → I' 64 j = I 64 j
def frXL (L L' : lF_) : Prop := ∀ a, (a ≤ 65 ∨ (94 ≤ a ∧ a ≤ 127) ∨ 133 ≤ a) → L' a = L a
/-- what a call of both leaves alone -/
def frJ (I I' : iF) : Prop := (∀ a, (a < 64 ∨ a = 65 ∨ (94 ≤ a ∧ a ≤ 127) ∨ a = 135 ∨ (152 ≤ a ∧ a ≤ 175) ∨ 189 ≤ a) → I' a = I a) ∧ (∀ j, j ≠ 7 → j ≠ 18 → j ≠ 22 → j ≠ 25 → j ≠ 26 → j ≠ 27 → j ≠ 28 → I' 64 j = I 64 j) ∧ (∀ j, j < 7040 → I' 188 j = I 188 j) ∧ ∀ j, j < 54 → I' 136 j = I 136 j
def frJL (L L' : lF_) : Prop := ∀ a, (a ≤ 65 ∨ (94 ≤ a ∧ a ≤ 127) ∨ (133 ≤ a ∧ a ≤ 175) ∨ 178 ≤ a) → L' a = L a
theorem frX.rf {I : iF} : frX I I := ⟨fun _ _ => rfl, fun _ _ _ _ _ _ _ _ => rfl⟩
theorem frXL.rf {L : lF_} : frXL L L := fun _ _ => rfl
theorem frX.tr {I I' I'' : iF} (h : frX I I') (h' : frX I' I'') : frX I I'' := ⟨fun a ha => (h'.1 a ha).trans (h.1 a ha), fun j h1 h2 h3 h4 h5 h6 h7 => (h'.2 j h1 h2 h3 h4 h5 h6 h7).trans (h.2 j h1 h2 h3 h4 h5 h6 h7)⟩
theorem frXL.tr {L L' L'' : lF_} (h : frXL L L') (h' : frXL L' L'') : frXL L L'' := fun a ha => (h' a ha).trans (h a ha)
theorem frX.up {I I' : iF} {a k : Nat} {v : Int32} (h : frX I I') (ha : (66 ≤ a ∧ a < 94) ∨ (127 < a ∧ a < 135) ∨ (a = 64 ∧ (k = 7 ∨ k = 18 ∨ k = 22 ∨ (25 ≤ k ∧ k ≤ 28)))) : frX I (ph_u I' a k v) := by
  refine ⟨fun b hb => ?_, fun j h1 h2 h3 h4 h5 h6 h7 => ?_⟩
  · rw [pu_ne (by omega)]; exact h.1 b hb
  · by_cases c : a = 64
    · subst c; rw [pu_nk (by omega)]; exact h.2 j h1 h2 h3 h4 h5 h6 h7
    · rw [pu_ne (by omega)]; exact h.2 j h1 h2 h3 h4 h5 h6 h7
theorem frXL.up {L L' : lF_} {a k : Nat} {v : Int64} (h : frXL L L') (ha : (66 ≤ a ∧ a < 94) ∨ (127 < a ∧ a < 133)) : frXL L (ph_u L' a k v) := fun b hb => by
  rw [pu_ne (by omega)]; exact h b hb
theorem frG.X {g : Nat} {I I' : iF} (h : frG g I I') (hg : g = 66 ∨ g = 80) : frX I I' := ⟨fun a ha => h a (by omega), fun j _ _ _ _ _ _ _ => by rw [h 64 (by omega)]⟩
theorem frH.X {g : Nat} {L L' : lF_} (h : frH g L L') (hg : g = 66 ∨ g = 80) : frXL L L' := fun a ha => h a (by omega)
theorem frX.J {I I' : iF} (h : frX I I') : frJ I I' := ⟨fun a ha => h.1 a (by omega), h.2, fun j _ => by rw [h.1 188 (by omega)], fun j _ => by rw [h.1 136 (by omega)]⟩
theorem frT.J {I I' : iF} (h : frT I I') : frJ I I' := ⟨fun a ha => h.1 a (by omega), fun j _ _ _ _ _ _ _ => by rw [h.1 64 (by omega)], h.2.1, h.2.2⟩
theorem frXL.J {L L' : lF_} (h : frXL L L') : frJL L L' := fun a ha => h a (by omega)
theorem frTL.J {L L' : lF_} (h : frTL L L') : frJL L L' := fun a ha => h a (by omega) (by omega)
theorem frJ.tr {I I' I'' : iF} (h : frJ I I') (h' : frJ I' I'') : frJ I I'' := ⟨fun a ha => (h'.1 a ha).trans (h.1 a ha), fun j h1 h2 h3 h4 h5 h6 h7 => (h'.2.1 j h1 h2 h3 h4 h5 h6 h7).trans (h.2.1 j h1 h2 h3 h4 h5 h6 h7), fun j hj => (h'.2.2.1 j hj).trans (h.2.2.1 j hj), fun j hj => (h'.2.2.2 j hj).trans (h.2.2.2 j hj)⟩
theorem frJL.tr {L L' L'' : lF_} (h : frJL L L') (h' : frJL L' L'') : frJL L L'' := fun a ha => (h' a ha).trans (h a ha)
theorem frJ.rf {I : iF} : frJ I I := ⟨fun _ _ => rfl, fun _ _ _ _ _ _ _ _ => rfl, fun _ _ => rfl, fun _ _ => rfl⟩
theorem frJL.rf {L : lF_} : frJL L L := fun _ _ => rfl
/-- TruthBridge with its land, if there is one -/
def bL (q : ph_t) (I : iF) (L : lF_) (A : ld_t) (T : Nat → Nat → Bool) (sM : Nat) : Prop := XS q ∧ tlR (L 65) sM T ∧ I 64 1 = nI sM ∧ I 64 7 = nI (lA A 1 8) ∧ lW A ∧ sM ≤ 24 ∧ ((ph_R q 64 2 = some 66 ∧ glR I L 66 A ∧ 0 < lA A 1 0) ∨ (ph_R q 64 2 = none ∧ lBl A))
def jK (q : ph_t) (I : iF) (L : lF_) (A : ld_t) (T : Nat → Nat → Bool) (sM : Nat) : Prop := mK q I A T sM ∧ bL q I L A T sM ∧ lW2 A
/-- both answer alike, and stand alike then -/
def jO (q : ph_t) (I : iF) (L : lF_) (T : Nat → Nat → Bool) (sM : Nat) (x m : ph_t → Option (Int32 × ph_t)) : Prop := ∃ r h1 I2 L2 A', x (hw q I L) = some (r, h1) ∧ m h1 = some (r, hw q I2 L2) ∧ frJ I I2 ∧ frJL L L2 ∧ jK q I2 L2 A' T sM
section JST
variable {q : ph_t} {I : iF} {L : lF_} {A : ld_t} {T : Nat → Nat → Bool} {sM : Nat}
theorem bL.K (B : bL q I L A T sM) (h : 0 < lA A 1 0) : bK q 66 I L A T sM ∧ ph_R q 64 2 = some 66 := by
  obtain ⟨X, hT, hs, hx, W, h24, hl⟩ := B
  rcases hl with ⟨h1, h2, -⟩ | ⟨h1, h2⟩
  · exact ⟨⟨X, X.land, h2, hT, hs, W, h24, Nat.le_refl _⟩, h1⟩
  · have := h2.1 0 (by decide)
    omega
theorem bK.toL (K : bK q 66 I L A T sM) (hl : ph_R q 64 2 = some 66) (h : 0 < lA A 1 0) (hx : I 64 7 = nI (lA A 1 8)) : bL q I L A T sM :=
  ⟨K.1, K.2.2.2.1, K.2.2.2.2.1, hx, K.2.2.2.2.2.1, K.2.2.2.2.2.2.1, Or.inl ⟨hl, K.2.2.1, h⟩⟩
theorem glR_keep {I I' : iF} {L L' : lF_} {g : Nat} (W : lW A) (R : glR I L g A) (h : ∀ a, g ≤ a → a ≤ g + 13 → I' a = I a) (h' : ∀ a, g ≤ a → a ≤ g + 13 → L' a = L a) : glR I' L' g A :=
  glR_copy W R (fun j _ => by rw [h g (by omega) (by omega)]) (fun j h1 h2 _ _ i _ => by rw [h _ (by omega) (by omega)]) (fun i _ => by rw [h' _ (by omega) (by omega)]) (fun i _ => by rw [h' _ (by omega) (by omega)])
theorem bL.keep {I' : iF} {L' : lF_} (B : bL q I L A T sM) (h : ∀ a, 64 ≤ a → a < 80 → I' a = I a) (h' : ∀ a, 64 ≤ a → a < 80 → L' a = L a) : bL q I' L' A T sM := by
  obtain ⟨X, hT, hs, hx, W, h24, hl⟩ := B
  refine ⟨X, by rw [h' 65 (by omega) (by omega)]; exact hT, by rw [h 64 (by omega) (by omega)]; exact hs, by rw [h 64 (by omega) (by omega)]; exact hx, W, h24, ?_⟩
  rcases hl with ⟨h1, h2, h3⟩ | ⟨h1, h2⟩
  · exact Or.inl ⟨h1, glR_keep W h2 (fun a a1 a2 => h a (by omega) (by omega)) (fun a a1 a2 => h' a (by omega) (by omega)), h3⟩
  · exact Or.inr ⟨h1, h2⟩
theorem mK.X {I' : iF} (K : mK q I A T sM) (h : frX I I') : mK q I' A T sM := K.keep (fun a ha => h.1 a (by omega)) (by rw [h.1 136 (by omega)]) (by rw [h.1 136 (by omega)])
theorem frT.B {I I' : iF} {L L' : lF_} (h : frT I I') (h' : frTL L L') (B : bL q I L A T sM) : bL q I' L' A T sM := B.keep (fun a a1 a2 => h.1 a (by omega)) (fun a a1 a2 => h' a (by omega) (by omega))
/-- both only look -/
theorem jO_same {x m : ph_t → Option (Int32 × ph_t)} {r : Int32} (J : jK q I L A T sM) (hx : x (hw q I L) = some (r, hw q I L)) (hm : m (hw q I L) = some (r, hw q I L)) : jO q I L T sM x m := ⟨r, _, I, L, A, hx, hm, frJ.rf, frJL.rf, J⟩
theorem jO_mk {x m : ph_t → Option (Int32 × ph_t)} {r : Int32} {I1 : iF} {L1 : lF_} {A' : ld_t} (hx : x (hw q I L) = some (r, hw q I1 L1)) (f1 : frX I I1) (f2 : frXL L L1) (B : bL q I1 L1 A' T sM) (V : lW2 A') (hm : ∃ I2 L2, m (hw q I1 L1) = some (r, hw q I2 L2) ∧ frT I1 I2 ∧ frTL L1 L2 ∧ mK q I2 A' T sM) : jO q I L T sM x m := by
  obtain ⟨I2, L2, e1, e2, e3, e4⟩ := hm
  exact ⟨r, _, I2, L2, A', hx, e1, f1.J.tr e2.J, f2.J.tr e3.J, e4, e2.B e3 B, V⟩
-- TruthBridge's questions
theorem inB_iff {v : Int32} {n : Nat} : inB v n = true ↔ 0 ≤ v.toInt ∧ v.toInt < (n : Int) := by
  unfold inB
  exact decide_eq_true_iff
theorem ltJ_0 {v : Int32} : (v < nI 0) = (v.toInt < 0) := by
  rw [← nJ_0]
  exact propext (by rw [Int32.lt_iff_toInt_lt]; rfl)
theorem le_n {v : Int32} {n : Nat} (h : n < 2 ^ 31) : (nI n ≤ v) = ((n : Int) ≤ v.toInt) := propext (by rw [Int32.le_iff_toInt_le, nI_toInt h])
theorem in_two {v : Int32} {n : Nat} {h : ph_t} (hn : n < 2 ^ 31) : (if v < nI 0 then rz_ (nI 0) h else if nI n ≤ v then rz_ (nI 0) h else rz_ (nI 1) h) = some (nI (if inB v n then 1 else 0), h) := by
  simp only [ltJ_0, le_n hn]
  cases c : inB v n
  · have : ¬ (0 ≤ v.toInt ∧ v.toInt < (n : Int)) := fun z => by rw [inB_iff.mpr z] at c; cases c
    by_cases c1 : v.toInt < 0
    · rw [if_pos c1]; rfl
    · rw [if_neg c1, if_pos (by omega)]; rfl
  · have := inB_iff.mp c
    rw [if_neg (by omega), if_neg (by omega)]
    rfl
theorem inB_0 {v : Int32} : inB v 0 = false := by
  cases c : inB v 0
  · rfl
  · have := inB_iff.mp c
    omega
theorem bL_isPerson (B : bL q I L A T sM) (v : Int32) : fX0_isPerson 64 v (hw q I L) = some (nI (if inB v (lA A 1 2) then 1 else 0), hw q I L) := by
  obtain ⟨X, hT, hs, hx, W, h24, hl⟩ := B
  have h0 := W.1.2.2.1
  rcases hl with ⟨h1, h2, -⟩ | ⟨h1, h2⟩
  · have G := X.land
    simp (disch := omega) only [fX0_isPerson, nL, nI_add, nJ_mul, nJ_div, nJ_mod, nI_leI, nI_ltI, nI_eq, Option.bind_some, Option.bind_none, Nat.one_ne_zero, Nat.zero_ne_one, Nat.zero_add, Nat.add_zero, if_true, if_false, not_true_eq_false, not_false_eq_true, gx2 X h1, nq_66, gl_I G, h2.f2, in_two]
  · rw [h2.1 2 (by decide), inB_0]
    simp (disch := omega) only [fX0_isPerson, nL, nI_add, nJ_mul, nJ_div, nJ_mod, nI_leI, nI_ltI, nI_eq, Option.bind_some, Option.bind_none, Nat.one_ne_zero, Nat.zero_ne_one, Nat.zero_add, Nat.add_zero, if_true, if_false, not_true_eq_false, not_false_eq_true, gx2n X h1, nq_0, rz_0, Bool.false_eq_true]
theorem bL_isPlace (B : bL q I L A T sM) (v : Int32) : fX0_isPlace 64 v (hw q I L) = some (nI (if inB v (lA A 1 3) then 1 else 0), hw q I L) := by
  obtain ⟨X, hT, hs, hx, W, h24, hl⟩ := B
  have h0 := W.1.2.2.2.1
  rcases hl with ⟨h1, h2, -⟩ | ⟨h1, h2⟩
  · have G := X.land
    simp (disch := omega) only [fX0_isPlace, nL, nI_add, nJ_mul, nJ_div, nJ_mod, nI_leI, nI_ltI, nI_eq, Option.bind_some, Option.bind_none, Nat.one_ne_zero, Nat.zero_ne_one, Nat.zero_add, Nat.add_zero, if_true, if_false, not_true_eq_false, not_false_eq_true, gx2 X h1, nq_66, gl_I G, h2.f3, in_two]
  · rw [h2.1 3 (by decide), inB_0]
    simp (disch := omega) only [fX0_isPlace, nL, nI_add, nJ_mul, nJ_div, nJ_mod, nI_leI, nI_ltI, nI_eq, Option.bind_some, Option.bind_none, Nat.one_ne_zero, Nat.zero_ne_one, Nat.zero_add, Nat.add_zero, if_true, if_false, not_true_eq_false, not_false_eq_true, gx2n X h1, nq_0, rz_0, Bool.false_eq_true]
theorem bL_isSaying (B : bL q I L A T sM) (v : Int32) : fX0_isSaying 64 v (hw q I L) = some (nI (if inB v sM then 1 else 0), hw q I L) := by
  obtain ⟨X, hT, hs, hx, W, h24, hl⟩ := B
  simp (disch := omega) only [fX0_isSaying, nL, nI_add, nJ_mul, nJ_div, nJ_mod, nI_leI, nI_ltI, nI_eq, Option.bind_some, Option.bind_none, Nat.one_ne_zero, Nat.zero_ne_one, Nat.zero_add, Nat.add_zero, if_true, if_false, not_true_eq_false, not_false_eq_true, gx_I X, hs, in_two]
/-- is there a land -/
def isL (A : ld_t) : Bool := decide (0 < lA A 1 0)
theorem bL_isAsked (B : bL q I L A T sM) (v : Int32) : fX0_isAsked 64 v (hw q I L) = some (nI (if isL A && inB v sM then 1 else 0), hw q I L) := by
  have e := bL_isSaying B v
  obtain ⟨X, hT, hs, hx, W, h24, hl⟩ := B
  rcases hl with ⟨h1, h2, h3⟩ | ⟨h1, h2⟩
  · have G := X.land
    have : isL A = true := decide_eq_true h3
    rw [this, Bool.true_and]
    cases c : inB v sM
    · simp (disch := omega) only [fX0_isAsked, nL, nI_add, nJ_mul, nJ_div, nJ_mod, nI_leI, nI_ltI, nI_eq, Option.bind_some, Option.bind_none, Nat.one_ne_zero, Nat.zero_ne_one, Nat.zero_add, Nat.add_zero, if_true, if_false, not_true_eq_false, not_false_eq_true, gx2 X h1, nq_66, dx X, e, c, rz_0, Bool.false_eq_true]
    · simp (disch := omega) only [fX0_isAsked, nL, nI_add, nJ_mul, nJ_div, nJ_mod, nI_leI, nI_ltI, nI_eq, Option.bind_some, Option.bind_none, Nat.one_ne_zero, Nat.zero_ne_one, Nat.zero_add, Nat.add_zero, if_true, if_false, not_true_eq_false, not_false_eq_true, gx2 X h1, nq_66, dx X, e, c, rz_1]
  · have : isL A = false := decide_eq_false (by have := h2.1 0 (by decide); omega)
    rw [this, Bool.false_and]
    simp (disch := omega) only [fX0_isAsked, nL, nI_add, nJ_mul, nJ_div, nJ_mod, nI_leI, nI_ltI, nI_eq, Option.bind_some, Option.bind_none, Nat.one_ne_zero, Nat.zero_ne_one, Nat.zero_add, Nat.add_zero, if_true, if_false, not_true_eq_false, not_false_eq_true, gx2n X h1, nq_0, rz_0, Bool.false_eq_true]
theorem bL_isWorld (B : bL q I L A T sM) (v : Int32) : fX0_isWorld 64 v (hw q I L) = some (nI (if isL A && inB v (2 ^ lA A 1 0) then 1 else 0), hw q I L) := by
  obtain ⟨X, hT, hs, hx, W, h24, hl⟩ := B
  have h8 := p2_8 W.1.1
  rcases hl with ⟨h1, h2, h3⟩ | ⟨h1, h2⟩
  · have G := X.land
    have : isL A = true := decide_eq_true h3
    rw [this, Bool.true_and]
    simp (disch := omega) only [fX0_isWorld, nL, nI_add, nJ_mul, nJ_div, nJ_mod, nI_leI, nI_ltI, nI_eq, Option.bind_some, Option.bind_none, Nat.one_ne_zero, Nat.zero_ne_one, Nat.zero_add, Nat.add_zero, if_true, if_false, not_true_eq_false, not_false_eq_true, gx2 X h1, nq_66, dl G, bE_worlds G h2 W, in_two]
  · have : isL A = false := decide_eq_false (by have := h2.1 0 (by decide); omega)
    rw [this, Bool.false_and]
    simp (disch := omega) only [fX0_isWorld, nL, nI_add, nJ_mul, nJ_div, nJ_mod, nI_leI, nI_ltI, nI_eq, Option.bind_some, Option.bind_none, Nat.one_ne_zero, Nat.zero_ne_one, Nat.zero_add, Nat.add_zero, if_true, if_false, not_true_eq_false, not_false_eq_true, gx2n X h1, nq_0, rz_0, Bool.false_eq_true]
theorem bL_isSet (B : bL q I L A T sM) (v : Int32) : fX0_isSet 64 v (hw q I L) = some (nI (if isL A && inB v (2 ^ sM) then 1 else 0), hw q I L) := by
  obtain ⟨X, hT, hs, hx, W, h24, hl⟩ := B
  have h8 : 2 ^ sM ≤ 2 ^ 24 := Nat.pow_le_pow_right (by decide) h24
  have e := nJ_shl (k := sM) (by omega)
  rw [nL 1] at e
  rcases hl with ⟨h1, h2, h3⟩ | ⟨h1, h2⟩
  · have G := X.land
    have : isL A = true := decide_eq_true h3
    rw [this, Bool.true_and]
    simp (disch := omega) only [fX0_isSet, nL, nI_add, nJ_mul, nJ_div, nJ_mod, nI_leI, nI_ltI, nI_eq, Option.bind_some, Option.bind_none, Nat.one_ne_zero, Nat.zero_ne_one, Nat.zero_add, Nat.add_zero, if_true, if_false, not_true_eq_false, not_false_eq_true, gx2 X h1, nq_66, gx_I X, hs, e, in_two]
  · have : isL A = false := decide_eq_false (by have := h2.1 0 (by decide); omega)
    rw [this, Bool.false_and]
    simp (disch := omega) only [fX0_isSet, nL, nI_add, nJ_mul, nJ_div, nJ_mod, nI_leI, nI_ltI, nI_eq, Option.bind_some, Option.bind_none, Nat.one_ne_zero, Nat.zero_ne_one, Nat.zero_add, Nat.add_zero, if_true, if_false, not_true_eq_false, not_false_eq_true, gx2n X h1, nq_0, rz_0, Bool.false_eq_true]
-- the model's
theorem kE_isLandB (K : mK q I A T sM) : fX3_isLand 136 (hw q I L) = some (nI (if isL A then 1 else 0), hw q I L) := by
  rw [kE_isLand K]
  unfold isL
  by_cases c : 0 < lA A 1 0
  · simp [c]
  · simp [c]
theorem kE_isWorld (K : mK q I A T sM) (v : Int32) : fX3_isWorld 136 v (hw q I L) = some (nI (if isL A && inB v (2 ^ lA A 1 0) then 1 else 0), hw q I L) := by
  have h8 := p2_8 K.2.2.2.2.1.1.1
  have e := in_n v (n := 2 ^ lA A 1 0) (by omega) (hw q I L)
  have el := kE_isLandB (L := L) K
  have ew := kE_worlds (L := L) K
  have M := K.1
  cases c : isL A
  · simp (disch := omega) only [fX3_isWorld, nL, nI_add, nJ_mul, nJ_div, nJ_mod, nI_leI, nI_ltI, nI_eq, Option.bind_some, Option.bind_none, Nat.one_ne_zero, Nat.zero_ne_one, Nat.zero_add, Nat.add_zero, if_true, if_false, not_true_eq_false, not_false_eq_true, dm M, el, c, rz_0, Bool.false_eq_true, Bool.false_and]
  · cases c2 : inB v (2 ^ lA A 1 0)
    · simp (disch := omega) only [fX3_isWorld, nL, nI_add, nJ_mul, nJ_div, nJ_mod, nI_leI, nI_ltI, nI_eq, Option.bind_some, Option.bind_none, Nat.one_ne_zero, Nat.zero_ne_one, Nat.zero_add, Nat.add_zero, if_true, if_false, not_true_eq_false, not_false_eq_true, dm M, el, c, ew, e, c2, rz_0, Bool.false_eq_true, Bool.true_and]
    · simp (disch := omega) only [fX3_isWorld, nL, nI_add, nJ_mul, nJ_div, nJ_mod, nI_leI, nI_ltI, nI_eq, Option.bind_some, Option.bind_none, Nat.one_ne_zero, Nat.zero_ne_one, Nat.zero_add, Nat.add_zero, if_true, if_false, not_true_eq_false, not_false_eq_true, dm M, el, c, ew, e, c2, rz_1, Bool.true_and]
theorem kE_isSet (K : mK q I A T sM) (v : Int32) : fX3_isSet 136 v (hw q I L) = some (nI (if isL A && inB v (2 ^ sM) then 1 else 0), hw q I L) := by
  have h24 := K.2.2.2.2.2
  have hs := K.2.2.2.1
  have h8 : 2 ^ sM ≤ 2 ^ 24 := Nat.pow_le_pow_right (by decide) h24
  have e := in_n v (n := 2 ^ sM) (by omega) (hw q I L)
  have e2 := nJ_shl (k := sM) (by omega)
  rw [nL 1] at e2
  have el := kE_isLandB (L := L) K
  have M := K.1
  cases c : isL A
  · simp (disch := omega) only [fX3_isSet, nL, nI_add, nJ_mul, nJ_div, nJ_mod, nI_leI, nI_ltI, nI_eq, Option.bind_some, Option.bind_none, Nat.one_ne_zero, Nat.zero_ne_one, Nat.zero_add, Nat.add_zero, if_true, if_false, not_true_eq_false, not_false_eq_true, dm M, el, c, rz_0, Bool.false_eq_true, Bool.false_and]
  · cases c2 : inB v (2 ^ sM)
    · simp (disch := omega) only [fX3_isSet, nL, nI_add, nJ_mul, nJ_div, nJ_mod, nI_leI, nI_ltI, nI_eq, Option.bind_some, Option.bind_none, Nat.one_ne_zero, Nat.zero_ne_one, Nat.zero_add, Nat.add_zero, if_true, if_false, not_true_eq_false, not_false_eq_true, dm M, el, c, gm_I M, hs, e2, e, c2, rz_0, Bool.false_eq_true, Bool.true_and]
    · simp (disch := omega) only [fX3_isSet, nL, nI_add, nJ_mul, nJ_div, nJ_mod, nI_leI, nI_ltI, nI_eq, Option.bind_some, Option.bind_none, Nat.one_ne_zero, Nat.zero_ne_one, Nat.zero_add, Nat.add_zero, if_true, if_false, not_true_eq_false, not_false_eq_true, dm M, el, c, gm_I M, hs, e2, e, c2, rz_1, Bool.true_and]
theorem bL.pos (B : bL q I L A T sM) {j : Nat} (hj : j < 8) (h : 0 < lA A 1 j) : 0 < lA A 1 0 := by
  obtain ⟨X, hT, hs, hx, W, h24, hl⟩ := B
  rcases hl with ⟨h1, h2, h3⟩ | ⟨h1, h2⟩
  · exact h3
  · have := h2.1 j hj
    omega
theorem bL.W (B : bL q I L A T sM) : lW A := B.2.2.2.2.1
theorem isL_iff : isL A = true ↔ 0 < lA A 1 0 := decide_eq_true_iff
end JST
