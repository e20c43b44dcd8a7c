/-! P2 MFOL: the model: what follows; others on one's side -/
/-- all of a set are so in a world -/
def a_all (T : Nat → Nat → Bool) (sM set w : Nat) : Bool := allB (fun k => !set.testBit k || T k w) sM
def a_fol (A : ld_t) (T : Nat → Nat → Bool) (sM set s : Nat) : Bool := allB (fun w => !(a_all T sM set w) || T s w) (2 ^ lA A 1 0)
def a_oth (A : ld_t) (p : Nat) : Nat := fb_ct (fun o => decide (¬ o = p) && decide (lA A 2 o = lA A 2 p)) (lA A 1 2)
section MFL
variable {q : ph_t} {I : iF} {L : lF_} {A : ld_t} {T : Nat → Nat → Bool} {sM : Nat}
theorem kE_others (K : mK q I A T sM) {p : Nat} (hp : p < lA A 1 2) : fX3_others 136 (nI p) (hw q I L) = some (nI (a_oth A p), hw q I L) := by
  obtain ⟨M, R, hT, hsM, hW, h24⟩ := K
  have h6 := hW.1.2.2.1
  have hp2 := (hW.2.1 p hp).1
  unfold fX3_others fX3_others_L4 a_oth
  generalize hP : (fun o => decide (¬ o = p) && decide (lA A 2 o = lA A 2 p)) = P
  refine whl_for (fun i => (nI (fb_ct P i), nI i, hw q I L)) (lA A 1 2) rfl (fun i hi => ?_) ?_
  · have ho2 := (hW.2.1 i hi).1
    have eP : P i = (decide (¬ i = p) && decide (lA A 2 i = lA A 2 p)) := by rw [← hP]
    by_cases c1 : i = p
    · have e1 : P i = false := by rw [eP, decide_eq_false (fun z => z c1), Bool.false_and]
      simp (disch := omega) only [fX3_others_L4_b, fX3_others_L39, fX3_others_L40, nm_, nL, nI_add, nJ_mul, nJ_div, nJ_mod, nI_leI, nI_ltI, nI_eq, Option.bind_some, Option.bind_none, Nat.one_ne_zero, Nat.zero_ne_one, Nat.zero_add, Nat.add_zero, if_true, if_false, not_true_eq_false, not_false_eq_true, gm1 M, xm137 M, rm1 R, show ¬ lA A 1 2 ≤ i by omega, c1 ▸ e1, c1, fb_ct_succ, Bool.false_eq_true, show ¬ lA A 1 2 ≤ p by omega]
    · by_cases c2 : lA A 2 i = lA A 2 p
      · have e1 : P i = true := by rw [eP, decide_eq_true c1, decide_eq_true c2]; rfl
        simp (disch := omega) only [fX3_others_L4_b, fX3_others_L39, fX3_others_L40, nm_, nL, nI_add, nJ_mul, nJ_div, nJ_mod, nI_leI, nI_ltI, nI_eq, Option.bind_some, Option.bind_none, Nat.one_ne_zero, Nat.zero_ne_one, Nat.zero_add, Nat.add_zero, if_true, if_false, not_true_eq_false, not_false_eq_true, gm1 M, xm137 M, rm1 R, show ¬ lA A 1 2 ≤ i by omega, e1, c1, gm2 M, xm138 M, rm2 R, c2, fb_ct_succ]
      · have e1 : P i = false := by rw [eP, decide_eq_false c2, Bool.and_false]
        simp (disch := omega) only [fX3_others_L4_b, fX3_others_L39, fX3_others_L40, nm_, nL, nI_add, nJ_mul, nJ_div, nJ_mod, nI_leI, nI_ltI, nI_eq, Option.bind_some, Option.bind_none, Nat.one_ne_zero, Nat.zero_ne_one, Nat.zero_add, Nat.add_zero, if_true, if_false, not_true_eq_false, not_false_eq_true, gm1 M, xm137 M, rm1 R, show ¬ lA A 1 2 ≤ i by omega, e1, c1, gm2 M, xm138 M, rm2 R, c2, fb_ct_succ, Bool.false_eq_true]
  · simp (disch := omega) only [fX3_others_L4_b, nL, nI_add, nJ_mul, nJ_div, nJ_mod, nI_leI, nI_ltI, nI_eq, Option.bind_some, Option.bind_none, Nat.one_ne_zero, Nat.zero_ne_one, Nat.zero_add, Nat.add_zero, if_true, if_false, not_true_eq_false, not_false_eq_true, gm1 M, xm137 M, rm1 R, Nat.le_refl, xr_s]
theorem allB_f {p : Nat → Bool} {i : Nat} (h : allB p i = false) : ∀ {n : Nat}, i ≤ n → allB p n = false := by
  intro n hn
  cases c : allB p n with
  | false => rfl
  | true =>
    have := allB_iff.mp c
    have h2 : allB p i = true := allB_iff.mpr fun k hk => this k (by omega)
    rw [h] at h2
    cases h2
theorem kE_fol24 (K : mK q I A T sM) {set s w : Nat} (hs : s < sM) (hw_ : w < 256) (b : Bool) : fX3_doesFollow_L24 136 (nI set) (nI s) (nI w) (nI (if b then 1 else 0)) (hw q I L) = some (if b && a_all T sM set w then .inr (nI 0, hw q I L) else .inl (nI (w + 1), hw q I L)) := by
  obtain ⟨M, R, hT, hsM, hW, h24⟩ := K
  unfold fX3_doesFollow_L24 fX3_doesFollow_L29 a_all
  generalize hP : (fun k => !set.testBit k || T k w) = P
  obtain ⟨t, h1, h2⟩ := whl_inv (f := fun z : Int32 × Int32 × ph_t => fX3_doesFollow_L29_b 136 (nI set) (nI s) (nI w) z.1 z.2.1 z.2.2) (P := fun i z => z = (nI (if b && allB P i then 1 else 0), nI i, hw q I L)) (Q := fun t => t = if b && allB P sM then .inr (nI 0, hw q I L) else .inl (nI (w + 1), hw q I L)) sM (by
      rintro i z hi rfl
      cases c0 : (b && allB P i)
      · right
        have e : (b && allB P sM) = false := by
          cases b with
          | false => rfl
          | true => rw [Bool.true_and] at c0 ⊢; exact allB_f c0 hi
        rw [e]
        by_cases c : sM ≤ i
        · exact ⟨_, by simp (disch := omega) only [fX3_doesFollow_L29_b, fX3_doesFollow_L75, nL, nI_add, nJ_mul, nJ_div, nJ_mod, nI_leI, nI_ltI, nI_eq, Option.bind_some, Option.bind_none, Nat.one_ne_zero, Nat.zero_ne_one, Nat.zero_add, Nat.add_zero, if_true, if_false, not_true_eq_false, not_false_eq_true, gm_I M, hsM, c, Bool.false_eq_true, xr_s] <;> rfl, rfl⟩
        · exact ⟨_, by simp (disch := omega) only [fX3_doesFollow_L29_b, fX3_doesFollow_L75, nL, nI_add, nJ_mul, nJ_div, nJ_mod, nI_leI, nI_ltI, nI_eq, Option.bind_some, Option.bind_none, Nat.one_ne_zero, Nat.zero_ne_one, Nat.zero_add, Nat.add_zero, if_true, if_false, not_true_eq_false, not_false_eq_true, gm_I M, hsM, c, Bool.false_eq_true, xr_s] <;> rfl, rfl⟩
      · by_cases c : i < sM
        · left
          have eP : P i = (!set.testBit i || T i w) := by rw [← hP]
          have eS := mE_isSo (I := I) (L := L) M hT (s := i) (w := w) c hw_ h24
          rw [Bool.and_eq_true] at c0
          refine ⟨c, _, ?_, rfl⟩
          cases c1 : set.testBit i
          · simp (disch := omega) only [fX3_doesFollow_L29_b, fX3_doesFollow_L62, fX3_doesFollow_L67, nL, nI_add, nJ_mul, nJ_div, nJ_mod, nI_leI, nI_ltI, nI_eq, Option.bind_some, Option.bind_none, Nat.one_ne_zero, Nat.zero_ne_one, Nat.zero_add, Nat.add_zero, if_true, if_false, not_true_eq_false, not_false_eq_true, gm_I M, hsM, show ¬ sM ≤ i by omega, mE_hasN, c1, eP, allB, c0.1, c0.2, Bool.not_false, Bool.true_or, Bool.true_and, Bool.false_eq_true]
          · cases c2 : T i w
            · simp (disch := omega) only [fX3_doesFollow_L29_b, fX3_doesFollow_L62, fX3_doesFollow_L67, nL, nI_add, nJ_mul, nJ_div, nJ_mod, nI_leI, nI_ltI, nI_eq, Option.bind_some, Option.bind_none, Nat.one_ne_zero, Nat.zero_ne_one, Nat.zero_add, Nat.add_zero, if_true, if_false, not_true_eq_false, not_false_eq_true, gm_I M, hsM, show ¬ sM ≤ i by omega, mE_hasN, c1, eP, allB, c0.1, c0.2, dm M, eS, c2, Bool.not_true, Bool.false_or, Bool.true_and, Bool.false_eq_true]
            · simp (disch := omega) only [fX3_doesFollow_L29_b, fX3_doesFollow_L62, fX3_doesFollow_L67, nL, nI_add, nJ_mul, nJ_div, nJ_mod, nI_leI, nI_ltI, nI_eq, Option.bind_some, Option.bind_none, Nat.one_ne_zero, Nat.zero_ne_one, Nat.zero_add, Nat.add_zero, if_true, if_false, not_true_eq_false, not_false_eq_true, gm_I M, hsM, show ¬ sM ≤ i by omega, mE_hasN, c1, eP, allB, c0.1, c0.2, dm M, eS, c2, Bool.not_true, Bool.false_or, Bool.true_and]
        · right
          have : i = sM := by omega
          subst this
          refine ⟨_, ?_, rfl⟩
          simp (disch := omega) only [fX3_doesFollow_L29_b, fX3_doesFollow_L75, nL, nI_add, nJ_mul, nJ_div, nJ_mod, nI_leI, nI_ltI, nI_eq, Option.bind_some, Option.bind_none, Nat.one_ne_zero, Nat.zero_ne_one, Nat.zero_add, Nat.add_zero, if_true, if_false, not_true_eq_false, not_false_eq_true, gm_I M, hsM, Nat.le_refl, c0, xr_s, rz_0]) 0 (nI (if b then 1 else 0), nI 0, hw q I L) (by omega) (by simp [allB])
  rw [nJ_0, h1, h2]
theorem kE_doesFollow (K : mK q I A T sM) {set s : Nat} (hs : s < sM) : fX3_doesFollow 136 (nI set) (nI s) (hw q I L) = some (nI (if a_fol A T sM set s then 1 else 0), hw q I L) := by
  have K0 := K
  obtain ⟨M, R, hT, hsM, hW, h24⟩ := K
  have h8 := p2_8 hW.1.1
  have ew := kE_worlds (L := L) K0
  unfold a_fol
  obtain ⟨N, hN⟩ : ∃ N, 2 ^ lA A 1 0 = N := ⟨_, rfl⟩
  rw [hN] at h8 ew
  rw [hN]
  unfold fX3_doesFollow fX3_doesFollow_L2
  generalize hP : (fun w => !(a_all T sM set w) || T s w) = P
  obtain ⟨t, h1, h2⟩ := whl_inv (f := fun z : Int32 × ph_t => fX3_doesFollow_L2_b 136 (nI set) (nI s) z.1 z.2) (P := fun i z => z = (nI i, hw q I L) ∧ allB P i = true) (Q := fun t => t = (nI (if allB P N then 1 else 0), hw q I L)) N (by
      rintro i z hi ⟨rfl, c0⟩
      by_cases c : i < N
      · have eP : P i = (!(a_all T sM set i) || T s i) := by rw [← hP]
        have eS := mE_isSo (I := I) (L := L) M hT (s := s) (w := i) hs (by omega) h24
        have e24 := kE_fol24 (L := L) K0 (set := set) hs (w := i) (by omega)
        cases c1 : T s i
        · have e24 := e24 true
          cases c2 : a_all T sM set i
          · left
            refine ⟨c, _, ?_, rfl, ?_⟩
            · simp (disch := omega) only [c2, Bool.and_false, Bool.false_eq_true, if_false, if_true] at e24
              simp (disch := omega) only [fX3_doesFollow_L2_b, nL, nI_add, nJ_mul, nJ_div, nJ_mod, nI_leI, nI_ltI, nI_eq, Option.bind_some, Option.bind_none, Nat.one_ne_zero, Nat.zero_ne_one, Nat.zero_add, Nat.add_zero, if_true, if_false, not_true_eq_false, not_false_eq_true, dm M, ew, show ¬ N ≤ i by omega, eS, c1, e24, Bool.false_eq_true]
            · rw [allB, c0, eP, c1, c2]; rfl
          · right
            refine ⟨_, ?_, rfl⟩
            have : allB P N = false := by
              refine allB_f (i := i + 1) ?_ c
              rw [allB, eP, c1, c2, c0]; rfl
            rw [this]
            simp (disch := omega) only [c2, Bool.and_true, if_true] at e24
            simp (disch := omega) only [fX3_doesFollow_L2_b, nL, nI_add, nJ_mul, nJ_div, nJ_mod, nI_leI, nI_ltI, nI_eq, Option.bind_some, Option.bind_none, Nat.one_ne_zero, Nat.zero_ne_one, Nat.zero_add, Nat.add_zero, if_true, if_false, not_true_eq_false, not_false_eq_true, dm M, ew, show ¬ N ≤ i by omega, eS, c1, e24, Bool.false_eq_true]
        · left
          have e24 := e24 false
          refine ⟨c, _, ?_, rfl, ?_⟩
          · simp (disch := omega) only [Bool.false_and, Bool.false_eq_true, if_false] at e24
            simp (disch := omega) only [fX3_doesFollow_L2_b, nL, nI_add, nJ_mul, nJ_div, nJ_mod, nI_leI, nI_ltI, nI_eq, Option.bind_some, Option.bind_none, Nat.one_ne_zero, Nat.zero_ne_one, Nat.zero_add, Nat.add_zero, if_true, if_false, not_true_eq_false, not_false_eq_true, dm M, ew, show ¬ N ≤ i by omega, eS, c1, e24]
          · rw [allB, c0, eP, c1, Bool.or_true]; rfl
      · right
        have : i = N := by omega
        subst this
        refine ⟨_, ?_, rfl⟩
        simp (disch := omega) only [fX3_doesFollow_L2_b, nL, nI_add, nJ_mul, nJ_div, nJ_mod, nI_leI, nI_ltI, nI_eq, Option.bind_some, Option.bind_none, Nat.one_ne_zero, Nat.zero_ne_one, Nat.zero_add, Nat.add_zero, if_true, if_false, not_true_eq_false, not_false_eq_true, dm M, ew, Nat.le_refl, c0, rz_1, xr_s]) 0 _ (by omega) ⟨rfl, rfl⟩
  rw [nJ_0, h1, h2]
end MFL
