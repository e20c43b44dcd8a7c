/-! P2 MDAY: the model: all forget; a day -/
theorem mlR_all {I I' : iF} {A : ld_t} {B : Nat → Nat → Bool} (R : mlR (mlL I) A) (h : ∀ a, a ≠ 151 → a ≠ 181 → I' a = I a) (hB : ∀ who, (who < lA A 1 2 ∨ who = 6) → rI_ (I' 151) (8 * who) (B who)) : mlR (mlL I') (A.1, B, A.2.2) := by
  have e : ∀ f i, f ≠ 15 → (f ≤ 15 ∨ f = 57) → mlL I' f i = mlL I f i := by
    intro f i hf hf2
    unfold mlL
    split
    · rw [h 136 (by decide) (by decide)]
    · split
      · rw [h 179 (by decide) (by decide)]
      · rw [h (136 + f) (by omega) (by omega)]
  obtain ⟨r1, r2, r3⟩ := R
  refine ⟨fun f i hi => ?_, hB, ?_⟩
  · have hf : f ≤ 14 := by
      refine Nat.le_of_not_lt fun z => ?_
      have hi : i < rnF A f := hi
      have : rnF A f = 0 := by
        unfold rnF
        rw [if_neg (by omega), if_neg (by omega), if_neg (by omega), if_neg (by omega), if_neg (by omega), if_neg (by omega), if_neg (by omega)]
      omega
    rw [e f i (by omega) (by omega)]
    exact r1 f i hi
  · rw [show mlL I' 57 = mlL I 57 from funext fun i => e 57 i (by decide) (by decide)]
    exact r3
section MDY
variable {q : ph_t} {I : iF} {L : lF_} {A : ld_t} {T : Nat → Nat → Bool} {sM : Nat}
theorem kE_forgets (K : mK q I A T sM) {f : Nat} (hf : f < lA A 1 0) : ∃ I', fX3_forgets 136 (nI f) (hw q I L) = some ((), hw q I' L) ∧ frL I I' ∧ mK q I' (a_fg A f) T sM := by
  have K0 := K
  obtain ⟨M, R, hT, hsM, hW, h24⟩ := K
  have h6 := hW.1.2.2.1
  have h8 := p2_8 hW.1.1
  have hxo := fun w (h : w < 2 ^ lA A 1 0) => xor_lt8 h hf
  have frm : ∀ I' : iF, (∀ a, a ≠ 151 → a ≠ 181 → I' a = I a) → frL I I' := fun I' h a ha => h a (by omega) (by omega)
  unfold fX3_forgets fX3_forgets_L2
  have KA : ∀ (I' : iF) (n : Nat), (∀ a, a ≠ 151 → a ≠ 181 → I' a = I a) → (∀ who, who < 7 → rI_ (I' 151) (8 * who) (fun w => if who < n then decide (w < 2 ^ lA A 1 0) && (bI_ (I 151) (8 * who) w || bI_ (I 151) (8 * who) (w ^^^ 2 ^ f)) else bI_ (I 151) (8 * who) w)) →
      mK q I' (A.1, fun who w => if who < n then decide (w < 2 ^ lA A 1 0) && (lH A who w || lH A who (w ^^^ 2 ^ f)) else lH A who w, A.2.2) T sM := by
    intro I' n h2 h3
    refine K0.next (frm I' h2) (mlR_all R h2 fun who hq => rI_cong (h3 who (by omega)) fun w hw_ => ?_) ?_
    · have e := R.2.1 who hq
      by_cases c : who < n
      · rw [if_pos c, if_pos c]
        by_cases c2 : w < 2 ^ lA A 1 0
        · have e1 : bI_ (I 151) (8 * who) w = lH A who w := e w hw_
          have e2 : bI_ (I 151) (8 * who) (w ^^^ 2 ^ f) = lH A who (w ^^^ 2 ^ f) := e _ (Nat.lt_of_lt_of_le (hxo w c2) h8)
          rw [e1, e2]
        · rw [decide_eq_false c2, Bool.false_and, Bool.false_and]
      · rw [if_neg c, if_neg c]
        exact e w hw_
    · obtain ⟨w1, w2, w3, w4, w5, w6⟩ := hW
      refine ⟨w1, w2, w3, w4, w5, fun who w hq hb => ?_⟩
      replace hb : (if who < n then decide (w < 2 ^ lA A 1 0) && (lH A who w || lH A who (w ^^^ 2 ^ f)) else lH A who w) = true := hb
      by_cases c : who < n
      · rw [if_pos c, Bool.and_eq_true] at hb
        exact of_decide_eq_true hb.1
      · rw [if_neg c] at hb
        exact w6 who w hq hb
  obtain ⟨t, h1, I', rfl, h2, h3⟩ := whl_inv (f := fun s_1 : Int32 × ph_t => fX3_forgets_L2_b 136 (nI f) s_1.1 s_1.2) (P := fun i z => ∃ I', z = (nI i, hw q I' L) ∧ (∀ a, a ≠ 151 → a ≠ 181 → I' a = I a) ∧ ∀ who, who < 7 → rI_ (I' 151) (8 * who) (fun w => if who < i then decide (w < 2 ^ lA A 1 0) && (bI_ (I 151) (8 * who) w || bI_ (I 151) (8 * who) (w ^^^ 2 ^ f)) else bI_ (I 151) (8 * who) w))
    (Q := fun t => ∃ I', t = ((), hw q I' L) ∧ (∀ a, a ≠ 151 → a ≠ 181 → I' a = I a) ∧ ∀ who, who < 7 → rI_ (I' 151) (8 * who) (fun w => if who < 7 then decide (w < 2 ^ lA A 1 0) && (bI_ (I 151) (8 * who) w || bI_ (I 151) (8 * who) (w ^^^ 2 ^ f)) else bI_ (I 151) (8 * who) w)) 7 (by
      rintro i z hi ⟨I', rfl, h2, h3⟩
      by_cases c : i < 7
      · left
        obtain ⟨I2, e1, e2, e3⟩ := mE_fg10 (L := L) (KA I' i h2 h3) c hf
        refine ⟨c, _, by simp (disch := omega) only [fX3_forgets_L2_b, nL, nI_add, nJ_mul, nJ_div, nJ_mod, nI_leI, nI_ltI, nI_eq, Option.bind_some, Option.bind_none, Nat.one_ne_zero, Nat.zero_ne_one, Nat.zero_add, Nat.add_zero, if_true, if_false, not_true_eq_false, not_false_eq_true, show ¬ 6 < i by omega, e1] <;> rfl, I2, rfl, fun a h7 h8 => (e2.1 a h7 h8).trans (h2 a h7 h8), fun who hq => ?_⟩
        by_cases c2 : who = i
        · subst c2
          refine rI_cong e3 fun w hw_ => ?_
          rw [if_pos (by omega)]
          have e := h3 who hq
          have e4 : ∀ v, v < 256 → bI_ (I' 151) (8 * who) v = bI_ (I 151) (8 * who) v := fun v hv => by
            have := e v hv
            dsimp only at this
            rw [if_neg (by omega)] at this
            exact this
          show (decide (w < 2 ^ lA A 1 0) && _) = _
          by_cases c3 : w < 2 ^ lA A 1 0
          · rw [e4 w hw_, e4 _ (Nat.lt_of_lt_of_le (hxo w c3) h8)]
          · rw [decide_eq_false c3, Bool.false_and, Bool.false_and]
        · refine rI_cong (B := fun w => if who < i then decide (w < 2 ^ lA A 1 0) && (bI_ (I 151) (8 * who) w || bI_ (I 151) (8 * who) (w ^^^ 2 ^ f)) else bI_ (I 151) (8 * who) w) (fun w hw_ => ?_) fun w hw_ => ?_
          · rw [e2.2 _ (by omega)]
            exact h3 who hq w hw_
          · by_cases c3 : who < i
            · rw [if_pos c3, if_pos (by omega)]
            · rw [if_neg c3, if_neg (by omega)]
      · right
        have : i = 7 := by omega
        subst this
        exact ⟨_, by simp (disch := omega) only [fX3_forgets_L2_b, nL, nI_add, nJ_mul, nJ_div, nJ_mod, nI_leI, nI_ltI, nI_eq, Option.bind_some, Option.bind_none, Nat.one_ne_zero, Nat.zero_ne_one, Nat.zero_add, Nat.add_zero, if_true, if_false, not_true_eq_false, not_false_eq_true, show 6 < 7 by omega, xr_s] <;> rfl, I', rfl, h2, h3⟩) 0 _ (by omega) ⟨I, rfl, fun _ _ _ => rfl, fun who _ => rI_cong bI_r fun w _ => by rw [if_neg (by omega)]⟩
  refine ⟨I', h1, frm I' h2, ?_⟩
  have := KA I' 7 h2 h3
  refine ⟨this.1, ?_, this.2.2.1, this.2.2.2.1, ?_, h24⟩
  · refine mlR_all R h2 fun who hq => rI_cong (this.2.1.2.1 who hq) fun w _ => ?_
    show (if who < 7 then _ else _) = _
    rw [if_pos (by omega)]
  · obtain ⟨w1, w2, w3, w4, w5, w6⟩ := hW
    refine ⟨w1, w2, w3, w4, w5, fun who w hq hb => ?_⟩
    replace hb : (decide (w < 2 ^ lA A 1 0) && (lH A who w || lH A who (w ^^^ 2 ^ f))) = true := hb
    rw [Bool.and_eq_true] at hb
    exact of_decide_eq_true hb.1
end MDY
