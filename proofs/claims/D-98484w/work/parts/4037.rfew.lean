/-! P2 RFEW: the fewest -/
def ctN (p : Nat) : Nat := fb_ct (fun i => p.testBit i) 32
/-- one set is tried -/
def fwN (fol : Nat → Bool) (p : Nat) (b : Option Nat) : Option Nat := match b with
  | none => if fol p then some p else none
  | some k => if ctN p < ctN k ∧ fol p = true then some p else some k
noncomputable def few_g (fol : Nat → Bool) (s : Nat) (z : Option Nat × Nat) : Option ((Option Nat × Nat) ⊕ Option Nat) :=
  if z.2 = s then some (.inr (fwN fol z.2 z.1)) else some (.inl (fwN fol z.2 z.1, nxt s z.2))
theorem few_end (fol : Nat → Bool) {s : Nat} (hs : s < 2 ^ 31) : ∃ t, whl (few_g fol s) (none, 0) = some t := by
  have key : ∀ (d : Nat) (b : Option Nat) (p : Nat), s - p = d → p &&& s = p → ∃ t, whl (few_g fol s) (b, p) = some t := by
    intro d
    induction d using Nat.strongRecOn with
    | ind d ih =>
      intro b p hd hp
      have hle : p ≤ s := by rw [← hp]; exact Nat.and_le_right
      rw [whl_eq]
      by_cases c : p = s
      · exact ⟨_, by simp only [few_g, c, if_true]; rfl⟩
      · have hg := nx_gt 32 p s (by omega) (by omega) hp c
        have hl := nxt_le (s := s) (p := p)
        have hg : p < nxt s p := hg
        obtain ⟨t, ht⟩ := ih (s - nxt s p) (by omega) (fwN fol p b) (nxt s p) rfl nxt_sub
        exact ⟨t, by simp only [few_g, c, if_false]; exact ht⟩
  exact key _ none 0 rfl (Nat.zero_and s)
theorem ctN_bt {p : Nat} : fb_ct (bt (nI p)) 32 = ctN p := fb_ct_cong fun i hi => bt_nI p i hi
theorem ctN_le {p : Nat} : ctN p ≤ 32 := fb_ct_le _ _
section RFW
variable {q : ph_t} {I : iF} {L : lF_} {A : ld_t} {T : Nat → Nat → Bool} {sM : Nat}
theorem mE_bitsN {p : Nat} {g : ph_t} : fX3_bits (nI p) g = some (nI (ctN p), g) := by rw [mE_bits, ctN_bt]
theorem fwN_lt {fol : Nat → Bool} {p : Nat} {b : Option Nat} {N : Nat} (hp : p < N) (hb : ∀ k, b = some k → k < N) : ∀ k, fwN fol p b = some k → k < N := by
  intro k hk
  cases b with
  | none =>
    by_cases c : fol p = true
    · simp [fwN, c] at hk; omega
    · simp [fwN, c] at hk
  | some j =>
    have := hb j rfl
    by_cases c : ctN p < ctN j ∧ fol p = true
    · have e : fwN fol p (some j) = some p := if_pos c
      rw [e] at hk; cases hk; exact hp
    · have e : fwN fol p (some j) = some j := if_neg c
      rw [e] at hk; cases hk; exact this
/-- the model's turn -/
theorem kE_few36 (K : mK q I A T sM) {s S p : Nat} {b : Option Nat} (hs : s < sM) (hS : S < 2 ^ 31) (hp : p ≤ S) (hb : ∀ k, b = some k → k < 2 ^ 31) :
    fX3_fewest_L36_b 136 (nI S) (nI s) (enO b) (nI p) (nI 0) (hw q I L) = some (.inl (enO (fwN (fun p => a_fol A T sM p s) p b), nI (nxt S p), nI (if p = S then 1 else 0), hw q I L)) := by
  have M := K.1
  have eF := kE_doesFollow (L := L) K (set := p) hs
  have eN := nxt_m hS hp
  have hc := ctN_le (p := p)
  have bN := nL 2
  cases b with
  | none =>
    unfold fwN
    cases c1 : a_fol A T sM p s
    · by_cases c2 : p = S
      · subst c2
        simp (disch := omega) only [fX3_fewest_L36_b, fX3_fewest_L59, fX3_fewest_L64, fX3_fewest_L86, fX3_fewest_L87, fX3_fewest_L99, nm_, nL, nI_add, nJ_mul, nJ_div, nJ_mod, nI_leI, nI_ltI, nI_eq, Option.bind_some, Option.bind_none, Nat.one_ne_zero, Nat.zero_ne_one, Nat.zero_add, Nat.add_zero, if_true, if_false, not_true_eq_false, not_false_eq_true, enO_n, dm M, eF, c1, eN, Bool.false_eq_true]
      · simp (disch := omega) only [fX3_fewest_L36_b, fX3_fewest_L59, fX3_fewest_L64, fX3_fewest_L86, fX3_fewest_L87, fX3_fewest_L99, nm_, nL, nI_add, nJ_mul, nJ_div, nJ_mod, nI_leI, nI_ltI, nI_eq, Option.bind_some, Option.bind_none, Nat.one_ne_zero, Nat.zero_ne_one, Nat.zero_add, Nat.add_zero, if_true, if_false, not_true_eq_false, not_false_eq_true, enO_n, dm M, eF, c1, eN, c2, Bool.false_eq_true]
    · by_cases c2 : p = S
      · subst c2
        simp (disch := omega) only [fX3_fewest_L36_b, fX3_fewest_L59, fX3_fewest_L64, fX3_fewest_L86, fX3_fewest_L87, fX3_fewest_L99, nm_, nL, nI_add, nJ_mul, nJ_div, nJ_mod, nI_leI, nI_ltI, nI_eq, Option.bind_some, Option.bind_none, Nat.one_ne_zero, Nat.zero_ne_one, Nat.zero_add, Nat.add_zero, if_true, if_false, not_true_eq_false, not_false_eq_true, enO_n, enO_s, dm M, eF, c1, eN]
      · simp (disch := omega) only [fX3_fewest_L36_b, fX3_fewest_L59, fX3_fewest_L64, fX3_fewest_L86, fX3_fewest_L87, fX3_fewest_L99, nm_, nL, nI_add, nJ_mul, nJ_div, nJ_mod, nI_leI, nI_ltI, nI_eq, Option.bind_some, Option.bind_none, Nat.one_ne_zero, Nat.zero_ne_one, Nat.zero_add, Nat.add_zero, if_true, if_false, not_true_eq_false, not_false_eq_true, enO_n, enO_s, dm M, eF, c1, eN, c2]
  | some k =>
    have hk := hb k rfl
    have hck := ctN_le (p := k)
    have e2 := nI_m2 hk
    unfold fwN
    by_cases c0 : ctN p < ctN k
    · cases c1 : a_fol A T sM p s
      · by_cases c2 : p = S
        · subst c2
          simp (disch := omega) only [fX3_fewest_L36_b, fX3_fewest_L59, fX3_fewest_L64, fX3_fewest_L86, fX3_fewest_L87, fX3_fewest_L99, nm_, nL, nI_add, nJ_mul, nJ_div, nJ_mod, nI_leI, nI_ltI, nI_eq, Option.bind_some, Option.bind_none, Nat.one_ne_zero, Nat.zero_ne_one, Nat.zero_add, Nat.add_zero, if_true, if_false, not_true_eq_false, not_false_eq_true, enO_s, e2, mE_bitsN, show ¬ ctN k ≤ ctN p by omega, dm M, eF, c1, eN, Bool.false_eq_true, and_false]
        · simp (disch := omega) only [fX3_fewest_L36_b, fX3_fewest_L59, fX3_fewest_L64, fX3_fewest_L86, fX3_fewest_L87, fX3_fewest_L99, nm_, nL, nI_add, nJ_mul, nJ_div, nJ_mod, nI_leI, nI_ltI, nI_eq, Option.bind_some, Option.bind_none, Nat.one_ne_zero, Nat.zero_ne_one, Nat.zero_add, Nat.add_zero, if_true, if_false, not_true_eq_false, not_false_eq_true, enO_s, e2, mE_bitsN, show ¬ ctN k ≤ ctN p by omega, dm M, eF, c1, eN, c2, Bool.false_eq_true, and_false]
      · by_cases c2 : p = S
        · subst c2
          simp (disch := omega) only [fX3_fewest_L36_b, fX3_fewest_L59, fX3_fewest_L64, fX3_fewest_L86, fX3_fewest_L87, fX3_fewest_L99, nm_, nL, nI_add, nJ_mul, nJ_div, nJ_mod, nI_leI, nI_ltI, nI_eq, Option.bind_some, Option.bind_none, Nat.one_ne_zero, Nat.zero_ne_one, Nat.zero_add, Nat.add_zero, if_true, if_false, not_true_eq_false, not_false_eq_true, enO_s, e2, mE_bitsN, show ¬ ctN k ≤ ctN p by omega, c0, dm M, eF, c1, eN, and_self]
        · simp (disch := omega) only [fX3_fewest_L36_b, fX3_fewest_L59, fX3_fewest_L64, fX3_fewest_L86, fX3_fewest_L87, fX3_fewest_L99, nm_, nL, nI_add, nJ_mul, nJ_div, nJ_mod, nI_leI, nI_ltI, nI_eq, Option.bind_some, Option.bind_none, Nat.one_ne_zero, Nat.zero_ne_one, Nat.zero_add, Nat.add_zero, if_true, if_false, not_true_eq_false, not_false_eq_true, enO_s, e2, mE_bitsN, show ¬ ctN k ≤ ctN p by omega, c0, dm M, eF, c1, eN, c2, and_self]
    · by_cases c2 : p = S
      · subst c2
        simp (disch := omega) only [fX3_fewest_L36_b, fX3_fewest_L59, fX3_fewest_L64, fX3_fewest_L86, fX3_fewest_L87, fX3_fewest_L99, nm_, nL, nI_add, nJ_mul, nJ_div, nJ_mod, nI_leI, nI_ltI, nI_eq, Option.bind_some, Option.bind_none, Nat.one_ne_zero, Nat.zero_ne_one, Nat.zero_add, Nat.add_zero, if_true, if_false, not_true_eq_false, not_false_eq_true, enO_s, e2, mE_bitsN, show ctN k ≤ ctN p by omega, c0, eN, false_and]
      · simp (disch := omega) only [fX3_fewest_L36_b, fX3_fewest_L59, fX3_fewest_L64, fX3_fewest_L86, fX3_fewest_L87, fX3_fewest_L99, nm_, nL, nI_add, nJ_mul, nJ_div, nJ_mod, nI_leI, nI_ltI, nI_eq, Option.bind_some, Option.bind_none, Nat.one_ne_zero, Nat.zero_ne_one, Nat.zero_add, Nat.add_zero, if_true, if_false, not_true_eq_false, not_false_eq_true, enO_s, e2, mE_bitsN, show ctN k ≤ ctN p by omega, c0, eN, c2, false_and]
end RFW
