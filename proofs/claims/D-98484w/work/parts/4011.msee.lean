/-! P2 MSEE: the model: a fact is seen, is known -/
theorem rI_clr {I : iF} {a base w : Nat} {B : Nat → Bool} (h : rI_ (I a) base B) (hw_ : w < 256) : rI_ (ph_u I a (base + w / 32) (I a (base + w / 32) &&& (il_ 1 (nI (w % 32)) ^^^ (-1))) a) base (fun v => if v = w then false else B v) := by
  intro v hv
  dsimp only
  rw [pu_at]
  by_cases c : v / 32 = w / 32
  · rw [if_pos (by omega), b_and, bt_not (by omega), bt_sh (by omega) (by omega), ← c, h v hv]
    by_cases c2 : v = w
    · subst c2; simp
    · rw [if_neg c2, decide_eq_false (by omega)]
      simp
  · rw [if_neg (by omega), h v hv, if_neg (by intro z; subst z; exact c rfl)]
theorem rI_put {I : iF} {a base w : Nat} {B : Nat → Bool} (h : rI_ (I a) base B) (hw_ : w < 256) : rI_ (ph_u I a (base + w / 32) (I a (base + w / 32) ||| il_ 1 (nI (w % 32))) a) base (fun v => if v = w then true else B v) := by
  intro v hv
  dsimp only
  rw [pu_at]
  by_cases c : v / 32 = w / 32
  · rw [if_pos (by omega), b_or, bt_sh (by omega) (by omega), ← c, h v hv]
    by_cases c2 : v = w
    · subst c2; simp
    · rw [if_neg c2, decide_eq_false (by omega)]
      simp
  · rw [if_neg (by omega), h v hv, if_neg (by intro z; subst z; exact c rfl)]
theorem rI_cong {row : Nat → Int32} {base : Nat} {B B' : Nat → Bool} (h : rI_ row base B) (e : ∀ w, w < 256 → B w = B' w) : rI_ row base B' := fun w hw_ => (h w hw_).trans (e w hw_)
theorem mE_hasN {w f : Nat} (hf : f < 32) {g : ph_t} : fX3_has (nI w) (nI f) g = some (nI (if w.testBit f then 1 else 0), g) := by
  rw [mE_has hf, bt_nI _ _ hf]
theorem b2_eq {a b : Bool} : (nI (if a then 1 else 0) = nI (if b then 1 else 0)) ↔ a = b := by cases a <;> cases b <;> decide
/-- one sees how a fact is -/
def a_see (A : ld_t) (who f : Nat) : ld_t := lHs A who (fun w => lH A who w && (w.testBit f == (lA A 1 1).testBit f))
section MSE
variable {q : ph_t} {I : iF} {L : lF_} {A : ld_t} {T : Nat → Nat → Bool} {sM : Nat}
theorem kE_seesFact (K : mK q I A T sM) {who f : Nat} (hq : who < lA A 1 2 ∨ who = 6) (hf : f < lA A 1 0) : ∃ I', fX3_seesFact 136 (nI who) (nI f) (hw q I L) = some ((), hw q I' L) ∧ frL I I' ∧ mK q I' (a_see A who f) T sM := by
  have K0 := K
  obtain ⟨M, R, hT, hsM, hW, h24⟩ := K
  have h6 := hW.1.2.2.1
  have hn8 := hW.1.1
  have h8 := p2_8 hW.1.1
  obtain ⟨N, hN⟩ : ∃ N, 2 ^ lA A 1 0 = N := ⟨_, rfl⟩
  rw [hN] at h8
  have e : rI_ (I 151) (8 * who) (lH A who) := R.2.1 who hq
  unfold fX3_seesFact fX3_seesFact_L2
  obtain ⟨t, h1, I', rfl, h2, h3⟩ := whl_inv (f := fun s_1 : Int32 × ph_t => fX3_seesFact_L2_b 136 (nI who) (nI f) s_1.1 s_1.2) (P := fun i z => ∃ I', z = (nI i, hw q I' L) ∧ hdF I I' who ∧ rI_ (I' 151) (8 * who) (fun w => lH A who w && (decide (i ≤ w) || (w.testBit f == (lA A 1 1).testBit f))))
    (Q := fun t => ∃ I', t = ((), hw q I' L) ∧ hdF I I' who ∧ rI_ (I' 151) (8 * who) (fun w => lH A who w && (decide (N ≤ w) || (w.testBit f == (lA A 1 1).testBit f)))) (N) (by
      rintro i z hi ⟨I', rfl, h2, h3⟩
      have K' : mK q I' (lHs A who (fun w => lH A who w && (decide (i ≤ w) || (w.testBit f == (lA A 1 1).testBit f)))) T sM := K0.next h2.fr (mlR_held R h2 h3) (lW_held hW fun hh w hb => hW.2.2.2.2.2 who w hh (by simp only [Bool.and_eq_true] at hb; exact hb.1))
      have ew := kE_worlds (L := L) K'
      rw [lHs_A, hN] at ew
      by_cases c : i < N
      · left
        refine ⟨c, ?_⟩
        by_cases c2 : i.testBit f = (lA A 1 1).testBit f
        · refine ⟨_, by simp (disch := omega) only [fX3_seesFact_L2_b, fX3_seesFact_L53, nL, nI_add, nJ_mul, nJ_div, nJ_mod, nI_leI, nI_ltI, nI_eq, Option.bind_some, Option.bind_none, Nat.one_ne_zero, Nat.zero_ne_one, Nat.zero_add, Nat.add_zero, if_true, if_false, not_true_eq_false, not_false_eq_true, dm M, ew, gm1 M, xm137 M, rm1 K'.2.1, lHs_A, mE_hasN, b2_eq, c2, show ¬ N ≤ i by omega] <;> rfl, _, rfl, h2, rI_cong h3 fun w _ => ?_⟩
          by_cases c3 : w = i
          · subst c3; simp [c2]
          · rw [decide_eq_decide.mpr (show i ≤ w ↔ i + 1 ≤ w by omega)]
        · refine ⟨_, by simp (disch := omega) only [fX3_seesFact_L2_b, fX3_seesFact_L53, nL, nI_add, nJ_mul, nJ_div, nJ_mod, nI_leI, nI_ltI, nI_eq, Option.bind_some, Option.bind_none, Nat.one_ne_zero, Nat.zero_ne_one, Nat.zero_add, Nat.add_zero, if_true, if_false, not_true_eq_false, not_false_eq_true, dm M, ew, gm1 M, xm137 M, rm1 K'.2.1, lHs_A, mE_hasN, b2_eq, c2, show ¬ N ≤ i by omega, gm15 M, xm151 M, ym151 M, bt_m1] <;> rfl, _, rfl, h2.up (by omega), rI_cong (rI_clr h3 (w := i) (by omega)) fun w _ => ?_⟩
          by_cases c3 : w = i
          · subst c3; simp [c2]
          · rw [if_neg c3, decide_eq_decide.mpr (show i ≤ w ↔ i + 1 ≤ w by omega)]
      · right
        have : i = N := by omega
        subst this
        exact ⟨_, by simp (disch := omega) only [fX3_seesFact_L2_b, nL, nI_add, nJ_mul, nJ_div, nJ_mod, nI_leI, nI_ltI, nI_eq, Option.bind_some, Option.bind_none, Nat.one_ne_zero, Nat.zero_ne_one, Nat.zero_add, Nat.add_zero, if_true, if_false, not_true_eq_false, not_false_eq_true, dm M, ew, Nat.le_refl] <;> rfl, I', rfl, h2, h3⟩) 0 _ (by omega) ⟨I, rfl, hdF.rf, rI_cong e fun w _ => by simp⟩
  refine ⟨I', h1, h2.fr, K0.next h2.fr (mlR_held R h2 (rI_cong h3 fun w _ => ?_)) (lW_held hW fun hh w hb => hW.2.2.2.2.2 who w hh (by simp only [Bool.and_eq_true] at hb; exact hb.1))⟩
  cases c : lH A who w
  · rfl
  · have := hW.2.2.2.2.2 who w hq c
    rw [hN] at this
    rw [decide_eq_false (by omega), Bool.false_or]
end MSE
