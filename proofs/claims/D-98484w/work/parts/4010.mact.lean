/-! P2 MACT: the model's acts -/
def lSet (A : ld_t) (f i v : Nat) : ld_t := (fun f' i' => if f' = f ∧ i' = i then v else A.1 f' i', A.2)
theorem lSet_A {A : ld_t} {f i v f' i' : Nat} : lA (lSet A f i v) f' i' = if f' = f ∧ i' = i then v else lA A f' i' := rfl
theorem lSet_H {A : ld_t} {f i v : Nat} : lH (lSet A f i v) = lH A := rfl
theorem lSet_P {A : ld_t} {f i v : Nat} : lP (lSet A f i v) = lP A := rfl
theorem lSet_self {A : ld_t} {f i : Nat} : lSet A f i (lA A f i) = A := by
  unfold lSet lA
  have : (fun f' i' => if f' = f ∧ i' = i then A.1 f i else A.1 f' i') = A.1 := by
    funext f' i'
    by_cases c : f' = f ∧ i' = i
    · rw [if_pos c, c.1, c.2]
    · rw [if_neg c]
  rw [this]
theorem rnF_set {A : ld_t} {f i v : Nat} (h : f ≠ 1 ∨ i = 0 ∨ i = 1 ∨ i = 6 ∨ i = 8) (g : Nat) : rnF (lSet A f i v) g = rnF A g := by
  have e : ∀ j, (j = 2 ∨ j = 3 ∨ j = 4 ∨ j = 5 ∨ j = 7) → lA (lSet A f i v) 1 j = lA A 1 j := fun j hj => by
    rw [lSet_A, if_neg (by omega)]
  unfold rnF
  rw [e 2 (by omega), e 3 (by omega), e 4 (by omega), e 5 (by omega), e 7 (by omega)]
theorem mlR_set {I : iF} {A : ld_t} {f i v : Nat} (R : mlR (mlL I) A) (hf : 1 ≤ f ∧ f ≤ 14) (h : f ≠ 1 ∨ i = 0 ∨ i = 1 ∨ i = 6 ∨ i = 8) : mlR (mlL (ph_u I (136 + f) i (nI v))) (lSet A f i v) := by
  have e : ∀ g j, mlL (ph_u I (136 + f) i (nI v)) g j = if g = f ∧ j = i then nI v else mlL I g j := by
    intro g j
    unfold mlL
    by_cases g0 : g = 0
    · rw [if_pos g0, if_pos g0, if_neg (by omega), pu_ne (by omega)]
    · rw [if_neg g0, if_neg g0]
      by_cases g1 : g = 57
      · rw [if_pos g1, if_pos g1, if_neg (by omega), pu_ne (by omega)]
      · rw [if_neg g1, if_neg g1]
        simp only [ph_u, show (136 + g = 136 + f) = (g = f) from propext ⟨fun h => by omega, fun h => by omega⟩]
  have e15 : mlL (ph_u I (136 + f) i (nI v)) 15 = mlL I 15 := funext fun j => by rw [e, if_neg (by omega)]
  have e57 : mlL (ph_u I (136 + f) i (nI v)) 57 = mlL I 57 := funext fun j => by rw [e, if_neg (by omega)]
  have e2 : lA (lSet A f i v) 1 2 = lA A 1 2 := by rw [lSet_A, if_neg (by omega)]
  have e0 : lA (lSet A f i v) 0 0 = lA A 0 0 := by rw [lSet_A, if_neg (by omega)]
  obtain ⟨r1, r2, r3⟩ := R
  refine ⟨fun g j hj => ?_, ?_, ?_⟩
  · rw [rnF_set h] at hj
    rw [e, lSet_A]
    by_cases c : g = f ∧ j = i
    · rw [if_pos c, if_pos c]
    · rw [if_neg c, if_neg c]
      exact r1 g j hj
  · rw [e15, e2]
    exact r2
  · rw [e57, e2, e0]
    exact r3
/-- what a land's acts leave alone: all but the land's rows and the scratch rows -/
def frL (I I' : iF) : Prop := ∀ a, (a < 137 ∨ (151 < a ∧ a < 178) ∨ a = 179 ∨ 188 ≤ a) → I' a = I a
theorem frL.rf {I : iF} : frL I I := fun _ _ => rfl
theorem frL.tr {I I' I'' : iF} (h : frL I I') (h' : frL I' I'') : frL I I'' := fun a ha => (h' a ha).trans (h a ha)
theorem frL.up {I I' : iF} {a k : Nat} {v : Int32} (h : frL I I') (ha : (137 ≤ a ∧ a ≤ 151) ∨ a = 178 ∨ (180 ≤ a ∧ a ≤ 187)) : frL I (ph_u I' a k v) := fun b hb => by
  rw [pu_ne (by omega)]
  exact h b hb
theorem hdF.fr {I I' : iF} {who : Nat} (h : hdF I I' who) : frL I I' := fun a ha => h.1 a (by omega)
theorem mlR_fr {I I' : iF} {A : ld_t} (h : ∀ a, ((136 ≤ a ∧ a ≤ 151) ∨ a = 179) → I' a = I a) (R : mlR (mlL I) A) : mlR (mlL I') A := by
  have e0 : ∀ f j, f ≤ 15 ∨ f = 57 → mlL I' f j = mlL I f j := by
    intro f j hf
    unfold mlL
    split
    · rw [h 136 (by omega)]
    · split
      · rw [h 179 (by omega)]
      · rw [h (136 + f) (by omega)]
  obtain ⟨r1, r2, r3⟩ := R
  rw [← show mlL I' 15 = mlL I 15 from funext fun j => e0 15 j (by omega)] at r2
  rw [← show mlL I' 57 = mlL I 57 from funext fun j => e0 57 j (by omega)] at r3
  refine ⟨fun f j hj => ?_, r2, r3⟩
  rw [e0 f j (by
    left
    refine Nat.le_of_not_lt fun z => ?_
    have : rnF A f = 0 := by
      unfold rnF
      rw [if_neg (by omega), if_neg (by omega), if_neg (by omega), if_neg (by omega), if_neg (by omega), if_neg (by omega), if_neg (by omega)]
    omega)]
  exact r1 f j hj
theorem mK.next {q : ph_t} {I I' : iF} {A A' : ld_t} {T : Nat → Nat → Bool} {sM : Nat} (K : mK q I A T sM) (h : frL I I') (R : mlR (mlL I') A') (W : lW A') : mK q I' A' T sM := by
  obtain ⟨M, -, hT, hs, -, h24⟩ := K
  refine ⟨M, R, ?_, ?_, W, h24⟩
  · rw [h 171 (by omega)]
    exact hT
  · rw [h 136 (by omega)]
    exact hs
theorem lW_set6 {A : ld_t} {p v : Nat} (W : lW A) (hv : v ≤ 1) : lW (lSet A 6 p v) := by
  obtain ⟨w1, w2, w3, w4, w5, w6⟩ := W
  refine ⟨by simpa [lSet_A] using w1, fun k hk => ?_, by simpa [lSet_A] using w3, by simpa [lSet_A] using w4, by simpa [lSet_A] using w5, by simpa [lSet_A, lSet_H] using w6⟩
  have := w2 k (by simpa [lSet_A] using hk)
  simp only [lSet_A, show ¬ (2 = 6 ∧ k = p) by omega, show ¬ (3 = 6 ∧ k = p) by omega, show ¬ (4 = 6 ∧ k = p) by omega, show ¬ (5 = 6 ∧ k = p) by omega, if_false]
  refine ⟨this.1, this.2.1, this.2.2.1, this.2.2.2.1, this.2.2.2.2.1, ?_⟩
  split
  · exact hv
  · exact this.2.2.2.2.2
theorem lW_set2 {A : ld_t} {p v : Nat} (W : lW A) (hv : v ≤ 1) : lW (lSet A 2 p v) := by
  obtain ⟨w1, w2, w3, w4, w5, w6⟩ := W
  refine ⟨by simpa [lSet_A] using w1, fun k hk => ?_, by simpa [lSet_A] using w3, by simpa [lSet_A] using w4, by simpa [lSet_A] using w5, by simpa [lSet_A, lSet_H] using w6⟩
  have := w2 k (by simpa [lSet_A] using hk)
  simp only [lSet_A, show ¬ (6 = 2 ∧ k = p) by omega, show ¬ (3 = 2 ∧ k = p) by omega, show ¬ (4 = 2 ∧ k = p) by omega, show ¬ (5 = 2 ∧ k = p) by omega, if_false]
  refine ⟨?_, this.2⟩
  split
  · exact hv
  · exact this.1
theorem lW_held {A : ld_t} {who : Nat} {B : Nat → Bool} (W : lW A) (h : (who < lA A 1 2 ∨ who = 6) → ∀ w, B w = true → w < 2 ^ lA A 1 0) : lW (lHs A who B) := by
  obtain ⟨w1, w2, w3, w4, w5, w6⟩ := W
  refine ⟨w1, w2, w3, w4, w5, fun v w hv h7 => ?_⟩
  replace h7 : (if v = who then B w else lH A v w) = true := h7
  by_cases c : v = who
  · rw [if_pos c] at h7
    subst c
    exact h hv w h7
  · rw [if_neg c] at h7
    exact w6 v w hv h7
/-- what comes of it, told to the bridge -/
def a_cr (A : ld_t) (T : Nat → Nat → Bool) (p s : Nat) : Nat × ld_t :=
  if T s (lA A 1 1) = false then (0, lSet A 6 p 1) else if kn_ (lH A 6) (T s) = true then (1, lSet A 6 p 1)
  else if lA A 3 p ≤ gn_ (lH A 6) (T s) then (3, lSet (lHs A 6 (fun w => lH A 6 w && T s w)) 2 p (1 - lA A 2 p)) else (2, lHs A 6 (fun w => lH A 6 w && T s w))
section MA_
variable {q : ph_t} {I : iF} {L : lF_} {A : ld_t} {T : Nat → Nat → Bool} {sM : Nat}
theorem kE_crosses (K : mK q I A T sM) {p s : Nat} (hp : p < lA A 1 2) (hs : s < sM) : ∃ I', fX3_crosses 136 (nI p) (nI s) (hw q I L) = some (nI (a_cr A T p s).1, hw q I' L) ∧ frL I I' ∧ mK q I' (a_cr A T p s).2 T sM := by
  have K0 := K
  obtain ⟨M, R, hT, hsM, hW, h24⟩ := K
  have h6 := hW.1.2.2.1
  have hso := hW.1.2.1
  have h8 := p2_8 hW.1.1
  obtain ⟨w1, w2, w3, w4, w5, w6⟩ := hW.2.1 p hp
  have hg := gn_le (H := lH A 6) (B := T s)
  have e2 := mE_isKnown (L := L) M R hT hW (who := 6) (Or.inr rfl) hs h24
  have e3 := mE_isSo (I := I) (L := L) M hT hs (w := lA A 1 1) (by omega) h24
  have e4 := mE_gainOf (L := L) M R hT hW hs h24
  obtain ⟨I1, e5, h1, R1⟩ := mE_isTold (L := L) M R hT hW (who := 6) (Or.inr rfl) hs h24
  have e3' := mE_isSo (I := ph_u I 142 p (nI 1)) (L := L) M (sM := sM) (T := T) (by rw [pu_ne (by decide)]; exact hT) hs (w := lA A 1 1) (by omega) h24
  have R6 : mlR (mlL (ph_u I 142 p (nI 1))) (lSet A 6 p 1) := mlR_set (f := 6) R (by omega) (by omega)
  have W1 : lW (lHs A 6 (fun w => lH A 6 w && T s w)) := lW_held hW (fun _ w h => hW.2.2.2.2.2 6 w (Or.inr rfl) (by simp only [Bool.and_eq_true] at h; exact h.1))
  cases c3 : T s (lA A 1 1)
  · have ea : a_cr A T p s = (0, lSet A 6 p 1) := by unfold a_cr; rw [if_pos c3]
    rw [ea]
    refine ⟨ph_u I 142 p (nI 1), ?_, frL.rf.up (by omega), K0.next (frL.rf.up (by omega)) R6 (lW_set6 hW (by omega))⟩
    simp (disch := omega) only [fX3_crosses, fX3_crosses_L24, nL, nI_add, nJ_mul, nJ_div, nJ_mod, nI_leI, nI_ltI, nI_eq, Option.bind_some, Option.bind_none, Nat.one_ne_zero, Nat.zero_ne_one, Nat.zero_add, Nat.add_zero, if_true, if_false, not_true_eq_false, not_false_eq_true, gm1 M, xm137 M, rm1 R, rm1 R6, lSet_A, dm M, e3, e3', c3, gm6 M, ym142 M, Bool.false_eq_true, show ¬ (1 = 6 ∧ 1 = p) by omega]
  · have n3 : ¬ T s (lA A 1 1) = false := by rw [c3]; decide
    cases c4 : kn_ (lH A 6) (T s)
    · have n4 : ¬ kn_ (lH A 6) (T s) = true := by rw [c4]; decide
      by_cases c5 : lA A 3 p ≤ gn_ (lH A 6) (T s)
      · have ea : a_cr A T p s = (3, lSet (lHs A 6 (fun w => lH A 6 w && T s w)) 2 p (1 - lA A 2 p)) := by unfold a_cr; rw [if_neg n3, if_neg n4, if_pos c5]
        rw [ea]
        refine ⟨ph_u I1 138 p (nI (1 - lA A 2 p)), ?_, h1.fr.up (by omega), K0.next (h1.fr.up (by omega)) (mlR_set (f := 2) R1 (by omega) (by omega)) (lW_set2 W1 (by omega))⟩
        simp (disch := omega) only [fX3_crosses, fX3_crosses_L70, fX3_crosses_L104, nL, nI_add, nJ_mul, nJ_div, nJ_mod, nI_leI, nI_ltI, nI_eq, Option.bind_some, Option.bind_none, Nat.one_ne_zero, Nat.zero_ne_one, Nat.zero_add, Nat.add_zero, if_true, if_false, not_true_eq_false, not_false_eq_true, gm1 M, xm137 M, rm1 R, dm M, e3, c3, e2, c4, e4, gm3 M, xm139 M, rm3 R, show ¬ gn_ (lH A 6) (T s) < lA A 3 p by omega, e5, gm2 M, xm138 M, ym138 M, h1.1, rm2 R, nJ_sub, Bool.false_eq_true]
      · have ea : a_cr A T p s = (2, lHs A 6 (fun w => lH A 6 w && T s w)) := by unfold a_cr; rw [if_neg n3, if_neg n4, if_neg c5]
        rw [ea]
        have R2 : mlR (mlL (ph_u I1 138 p (nI (lA A 2 p)))) (lHs A 6 (fun w => lH A 6 w && T s w)) := by
          have := mlR_set (f := 2) (i := p) (v := lA A 2 p) R1 (by omega) (by omega)
          rw [show lA A 2 p = lA (lHs A 6 (fun w => lH A 6 w && T s w)) 2 p from rfl, lSet_self] at this
          exact this
        refine ⟨ph_u I1 138 p (nI (lA A 2 p)), ?_, h1.fr.up (by omega), K0.next (h1.fr.up (by omega)) R2 W1⟩
        simp (disch := omega) only [fX3_crosses, fX3_crosses_L70, fX3_crosses_L104, nL, nI_add, nJ_mul, nJ_div, nJ_mod, nI_leI, nI_ltI, nI_eq, Option.bind_some, Option.bind_none, Nat.one_ne_zero, Nat.zero_ne_one, Nat.zero_add, Nat.add_zero, if_true, if_false, not_true_eq_false, not_false_eq_true, gm1 M, xm137 M, rm1 R, dm M, e3, c3, e2, c4, e4, gm3 M, xm139 M, rm3 R, show gn_ (lH A 6) (T s) < lA A 3 p by omega, e5, gm2 M, xm138 M, ym138 M, h1.1, rm2 R, Bool.false_eq_true]
    · have ea : a_cr A T p s = (1, lSet A 6 p 1) := by unfold a_cr; rw [if_neg n3, if_pos c4]
      rw [ea]
      refine ⟨ph_u I 142 p (nI 1), ?_, frL.rf.up (by omega), K0.next (frL.rf.up (by omega)) R6 (lW_set6 hW (by omega))⟩
      simp (disch := omega) only [fX3_crosses, fX3_crosses_L24, nL, nI_add, nJ_mul, nJ_div, nJ_mod, nI_leI, nI_ltI, nI_eq, Option.bind_some, Option.bind_none, Nat.one_ne_zero, Nat.zero_ne_one, Nat.zero_add, Nat.add_zero, if_true, if_false, not_true_eq_false, not_false_eq_true, gm1 M, xm137 M, rm1 R, rm1 R6, lSet_A, dm M, e3, e3', c3, e2, c4, gm6 M, ym142 M, Bool.false_eq_true, show ¬ (1 = 6 ∧ 1 = p) by omega]
end MA_
