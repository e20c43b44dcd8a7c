/-! P2 JJ3: both answer: walk -/
section JJ3
variable {q : ph_t} {I : iF} {L : lF_} {A : ld_t} {T : Nat → Nat → Bool} {sM : Nat}
theorem kE_seesFactH (K : mK q I A T sM) {who f : Nat} (hq : who < lA A 1 2 ∨ who = 6) (hf : f < lA A 1 0) : ∃ I', fX3_seesFact 136 (nI who) (nI f) (hw q I L) = some ((), hw q I' L) ∧ hdF I I' who ∧ mK q I' (a_see A who f) T sM := by
  have K0 := K
  obtain ⟨M, R, hT, hsM, hW, h24⟩ := K
  have h6 := hW.1.2.2.1
  have hn8 := hW.1.1
  have h8 := p2_8 hW.1.1
  obtain ⟨N, hN⟩ : ∃ N, 2 ^ lA A 1 0 = N := ⟨_, rfl⟩
  rw [hN] at h8
  have e : rI_ (I 151) (8 * who) (lH A who) := R.2.1 who hq
  unfold fX3_seesFact fX3_seesFact_L2
  obtain ⟨t, h1, I', rfl, h2, h3⟩ := whl_inv (f := fun s_1 : Int32 × ph_t => fX3_seesFact_L2_b 136 (nI who) (nI f) s_1.1 s_1.2) (P := fun i z => ∃ I', z = (nI i, hw q I' L) ∧ hdF I I' who ∧ rI_ (I' 151) (8 * who) (fun w => lH A who w && (decide (i ≤ w) || (w.testBit f == (lA A 1 1).testBit f))))
    (Q := fun t => ∃ I', t = ((), hw q I' L) ∧ hdF I I' who ∧ rI_ (I' 151) (8 * who) (fun w => lH A who w && (decide (N ≤ w) || (w.testBit f == (lA A 1 1).testBit f)))) (N) (by
      rintro i z hi ⟨I', rfl, h2, h3⟩
      have K' : mK q I' (lHs A who (fun w => lH A who w && (decide (i ≤ w) || (w.testBit f == (lA A 1 1).testBit f)))) T sM := K0.next h2.fr (mlR_held R h2 h3) (lW_held hW fun hh w hb => hW.2.2.2.2.2 who w hh (by simp only [Bool.and_eq_true] at hb; exact hb.1))
      have ew := kE_worlds (L := L) K'
      rw [lHs_A, hN] at ew
      by_cases c : i < N
      · left
        refine ⟨c, ?_⟩
        by_cases c2 : i.testBit f = (lA A 1 1).testBit f
        · refine ⟨_, by simp (disch := omega) only [fX3_seesFact_L2_b, fX3_seesFact_L53, nL, nI_add, nJ_mul, nJ_div, nJ_mod, nI_leI, nI_ltI, nI_eq, Option.bind_some, Option.bind_none, Nat.one_ne_zero, Nat.zero_ne_one, Nat.zero_add, Nat.add_zero, if_true, if_false, not_true_eq_false, not_false_eq_true, dm M, ew, gm1 M, xm137 M, rm1 K'.2.1, lHs_A, mE_hasN, b2_eq, c2, show ¬ N ≤ i by omega] <;> rfl, _, rfl, h2, rI_cong h3 fun w _ => ?_⟩
          by_cases c3 : w = i
          · subst c3; simp [c2]
          · rw [decide_eq_decide.mpr (show i ≤ w ↔ i + 1 ≤ w by omega)]
        · refine ⟨_, by simp (disch := omega) only [fX3_seesFact_L2_b, fX3_seesFact_L53, nL, nI_add, nJ_mul, nJ_div, nJ_mod, nI_leI, nI_ltI, nI_eq, Option.bind_some, Option.bind_none, Nat.one_ne_zero, Nat.zero_ne_one, Nat.zero_add, Nat.add_zero, if_true, if_false, not_true_eq_false, not_false_eq_true, dm M, ew, gm1 M, xm137 M, rm1 K'.2.1, lHs_A, mE_hasN, b2_eq, c2, show ¬ N ≤ i by omega, gm15 M, xm151 M, ym151 M, bt_m1] <;> rfl, _, rfl, h2.up (by omega), rI_cong (rI_clr h3 (w := i) (by omega)) fun w _ => ?_⟩
          by_cases c3 : w = i
          · subst c3; simp [c2]
          · rw [if_neg c3, decide_eq_decide.mpr (show i ≤ w ↔ i + 1 ≤ w by omega)]
      · right
        have : i = N := by omega
        subst this
        exact ⟨_, by simp (disch := omega) only [fX3_seesFact_L2_b, nL, nI_add, nJ_mul, nJ_div, nJ_mod, nI_leI, nI_ltI, nI_eq, Option.bind_some, Option.bind_none, Nat.one_ne_zero, Nat.zero_ne_one, Nat.zero_add, Nat.add_zero, if_true, if_false, not_true_eq_false, not_false_eq_true, dm M, ew, Nat.le_refl] <;> rfl, I', rfl, h2, h3⟩) 0 _ (by omega) ⟨I, rfl, hdF.rf, rI_cong e fun w _ => by simp⟩
  refine ⟨I', h1, h2, K0.next h2.fr (mlR_held R h2 (rI_cong h3 fun w _ => ?_)) (lW_held hW fun hh w hb => hW.2.2.2.2.2 who w hh (by simp only [Bool.and_eq_true] at hb; exact hb.1))⟩
  cases c : lH A who w
  · rfl
  · have := hW.2.2.2.2.2 who w hq c
    rw [hN] at this
    rw [decide_eq_false (by omega), Bool.false_or]
theorem wkP_un {n : Nat} {D H H' : Nat → Nat} {N : Nat} (hN : N ≤ 64) (hn : n ≤ 6) (h : wkP n D H N 0) (h' : wkP n D H' N 0) : ∀ S, S < N → ∀ k, k < n → H (6 * S + k) = H' (6 * S + k) := by
  intro S
  induction S using Nat.strongRecOn with
  | ind S ih =>
    intro hS k hk
    by_cases z : S = 0
    · subst z
      simp only [Nat.mul_zero, Nat.zero_add]
      rw [h.2.1 k hk, h'.2.1 k hk]
    · rw [h.2.2 S k (by omega) hk (Or.inl hS), h'.2.2 S k (by omega) hk (Or.inl hS)]
      unfold wkL
      by_cases c : S.testBit k = true
      · rw [if_pos c, if_pos c]
        have hc := (clr_I S (by omega) k (by omega)).2.2.1 c
        exact fo_cg rfl n (fun i x hi => by rw [ih (clr S k) hc (by omega) i hi])
      · rw [if_neg c, if_neg c]
theorem hoF_un {H H' : Nat → Nat} (hw3 : lA A 1 3 ≤ 6) (h : wkP (lA A 1 3) (a_far A) H (2 ^ lA A 1 3) 0) (h' : wkP (lA A 1 3) (a_far A) H' (2 ^ lA A 1 3) 0) {S : Nat} (hS : S < 2 ^ lA A 1 3) : hoF A H' S = hoF A H S := by
  have hp : 2 ^ lA A 1 3 ≤ 2 ^ 6 := Nat.pow_le_pow_right (by decide) hw3
  unfold hoF
  exact fo_cg rfl _ (fun k x hk => by rw [wkP_un (by omega) hw3 h h' S hS k hk])
/-- the model's land as it stood, its hours and its ways -/
def wkJ (q : ph_t) (J : iF) (A : ld_t) (T : Nat → Nat → Bool) (sM : Nat) (H : Nat → Nat) : Prop := mK q J A T sM ∧ mlR (mlI J 4) A ∧ (∀ j, j < 36 → J 178 j = nI (a_far A j)) ∧ ∀ j, j < 384 → J 186 j = nI (H j)
theorem kE_walk74 {J : iF} {H : Nat → Nat} (hHB : ∀ j, H j ≤ 100000) (h : wkJ q J A T sM H) {p S : Nat} (hp : p < lA A 1 2) (hS : S < 2 ^ lA A 1 3) (w v3 : Int32) (v4 : Int32) : ∃ J', fX3_walk_L74 136 (nI p) w v3 v4 (nI S) (nI 0) (hw q J L) = some (.inl (if a_can (seeS A p S (lA A 1 3)) T sM p then nI S else v3, if a_can (seeS A p S (lA A 1 3)) T sM p then nI (hoF A H S) else v4, nI (S + 1), hw q J' L)) ∧ frT J J' ∧ wkJ q J' A T sM H := by
  obtain ⟨K, RA, h178, h186⟩ := h
  obtain ⟨M, R, hT, hsM, W, h24⟩ := id K
  have w3 := W.1.2.2.2.1
  have hp6 : 2 ^ lA A 1 3 ≤ 2 ^ 6 := Nat.pow_le_pow_right (by decide) w3
  have : ∃ t, fX3_walk_L74 136 (nI p) w v3 v4 (nI S) (nI 0) (hw q J L) = some t ∧ ∃ J', t = .inl (if a_can (seeS A p S (lA A 1 3)) T sM p then nI S else v3, if a_can (seeS A p S (lA A 1 3)) T sM p then nI (hoF A H S) else v4, nI (S + 1), hw q J' L) ∧ frT J J' ∧ wkJ q J' A T sM H := by
    unfold fX3_walk_L74
    refine whl_st (α := iF) (fun k U => (nI k, hw q U L)) (fun k U => (∀ a, a ≠ 151 → U a = J a) ∧ mK q U (seeS A p S k) T sM) (lA A 1 3) (a := J) rfl ⟨fun _ _ => rfl, K⟩ ?_ ?_
    · rintro k U hk ⟨f1, f2⟩
      have r3 : U 137 3 = nI (lA A 1 3) := by rw [f1 137 (by decide)]; exact rm1 R (by decide)
      have r7 : U 143 k = nI (lA A 7 k) := by rw [f1 143 (by decide)]; exact rm7 R hk
      cases c : S.testBit k
      · rw [seeS_0 c]
        exact ⟨U, by simp (disch := omega) only [fX3_walk_L74_b, fX3_walk_L107, nL, nI_add, nJ_mul, nJ_div, nJ_mod, nI_leI, nI_ltI, nI_eq, Option.bind_some, Option.bind_none, Nat.one_ne_zero, Nat.zero_ne_one, Nat.zero_add, Nat.add_zero, if_true, if_false, not_true_eq_false, not_false_eq_true, gm1 M, xm137 M, r3, show ¬ lA A 1 3 ≤ k by omega, mE_hasN, c, Bool.false_eq_true], f1, f2⟩
      · rw [seeS_1 c]
        obtain ⟨U', a1, a2, a3⟩ := kE_seesFactH (L := L) f2 (who := p) (f := lA A 7 k) (by rw [seeS_A]; exact Or.inl hp) (by rw [seeS_A]; exact W.2.2.1 k hk)
        exact ⟨U', by simp (disch := omega) only [fX3_walk_L74_b, fX3_walk_L107, nL, nI_add, nJ_mul, nJ_div, nJ_mod, nI_leI, nI_ltI, nI_eq, Option.bind_some, Option.bind_none, Nat.one_ne_zero, Nat.zero_ne_one, Nat.zero_add, Nat.add_zero, if_true, if_false, not_true_eq_false, not_false_eq_true, gm1 M, xm137 M, r3, show ¬ lA A 1 3 ≤ k by omega, mE_hasN, c, gm7 M, xm143 M, r7, dm M, a1], fun a ha => by rw [a2.1 a ha]; exact f1 a ha, a3⟩
    · rintro U ⟨f1, f2⟩
      have r3 : U 137 3 = nI (lA A 1 3) := by rw [f1 137 (by decide)]; exact rm1 R (by decide)
      have eC := kE_can (L := L) f2 (p := p) (by rw [seeS_A]; exact hp)
      obtain ⟨U2, a1, a2, a3, a4, a5⟩ := kE_laysBack (L := L) f2 (A := A) (by rw [mlI_eq (f1 188 (by decide))]; exact RA) W
      have e178 : U2 178 = J 178 := by rw [a3 178 (by omega), f1 178 (by decide)]
      have e186 : U2 186 = J 186 := by rw [a3 186 (by omega), f1 186 (by decide)]
      have e188 : U2 188 = J 188 := by rw [a3 188 (by omega), f1 188 (by decide)]
      have hJ : wkJ q U2 A T sM H := ⟨a5, by rw [mlI_eq e188]; exact RA, by rw [e178]; exact h178, by rw [e186]; exact h186⟩
      have eO := kE_hoursOf (L := L) hJ.1 hJ.2.2.1 hJ.2.2.2 hHB hS
      have fr : frT J U2 := (frT_row (fun a h1 h2 => f1 a (by omega)) (fun j hj => by rw [f1 136 (by decide)])).tr a2
      cases c : a_can (seeS A p S (lA A 1 3)) T sM p
      · exact ⟨_, by simp (disch := omega) only [fX3_walk_L74_b, fX3_walk_L140, fX3_walk_L153, fX3_walk_L154, nL, nI_add, nJ_mul, nJ_div, nJ_mod, nI_leI, nI_ltI, nI_eq, Option.bind_some, Option.bind_none, Nat.one_ne_zero, Nat.zero_ne_one, Nat.zero_add, Nat.add_zero, if_true, if_false, not_true_eq_false, not_false_eq_true, gm1 M, xm137 M, r3, Nat.le_refl, dm M, eC, c, a1, Bool.false_eq_true, xr_s] <;> rfl, U2, rfl, fr, hJ⟩
      · exact ⟨_, by simp (disch := omega) only [fX3_walk_L74_b, fX3_walk_L140, fX3_walk_L153, fX3_walk_L154, nL, nI_add, nJ_mul, nJ_div, nJ_mod, nI_leI, nI_ltI, nI_eq, Option.bind_some, Option.bind_none, Nat.one_ne_zero, Nat.zero_ne_one, Nat.zero_add, Nat.add_zero, if_true, if_false, not_true_eq_false, not_false_eq_true, gm1 M, xm137 M, r3, Nat.le_refl, dm M, eC, c, a1, eO, xr_s] <;> rfl, U2, rfl, fr, hJ⟩
  obtain ⟨t, a1, J', rfl, a2⟩ := this
  exact ⟨J', a1, a2⟩
theorem hoF_le {H : Nat → Nat} (S : Nat) : hoF A H S ≤ 100000 := by
  unfold hoF
  refine fo_ind (P := fun x => x ≤ 100000) ?_ _ (fun i x _ hx => by omega)
  split <;> omega
theorem kE_walk47 {J : iF} {H : Nat → Nat} (hHB : ∀ j, H j ≤ 100000) (h : wkJ q J A T sM H) {p : Nat} (hp : p < lA A 1 2) (w : Int32) : ∃ J', fX3_walk_L47 136 (nI p) w (-(nI 2)) (nI (25 - lA A 5 p)) (nI 0) (hw q J L) = some (if (wkF A T sM p (hoF A H) (2 ^ lA A 1 3)).1 = none ∨ w = nI 1 then enO (wkF A T sM p (hoF A H) (2 ^ lA A 1 3)).1 else nI (wkF A T sM p (hoF A H) (2 ^ lA A 1 3)).2, hw q J' L) ∧ frT J J' ∧ mK q J' A T sM := by
  obtain ⟨M, R, hT, hsM, W, h24⟩ := id h.1
  have w3 := W.1.2.2.2.1
  have hp6 : 2 ^ lA A 1 3 ≤ 2 ^ 6 := Nat.pow_le_pow_right (by decide) w3
  have ef := nJ_shl (k := lA A 1 3) (by omega)
  rw [nL 1] at ef
  have : ∃ t, fX3_walk_L47 136 (nI p) w (-(nI 2)) (nI (25 - lA A 5 p)) (nI 0) (hw q J L) = some t ∧ ∃ J', t = (if (wkF A T sM p (hoF A H) (2 ^ lA A 1 3)).1 = none ∨ w = nI 1 then enO (wkF A T sM p (hoF A H) (2 ^ lA A 1 3)).1 else nI (wkF A T sM p (hoF A H) (2 ^ lA A 1 3)).2, hw q J' L) ∧ frT J J' ∧ mK q J' A T sM := by
    unfold fX3_walk_L47
    refine whl_st (α := iF) (fun S U => (enO (wkF A T sM p (hoF A H) S).1, nI (wkF A T sM p (hoF A H) S).2, nI S, hw q U L)) (fun S U => frT J U ∧ wkJ q U A T sM H) (2 ^ lA A 1 3) (a := J) rfl ⟨frT.rf, h⟩ ?_ ?_
    · rintro S U hS ⟨f1, f2⟩
      have r3 : U 137 3 = nI (lA A 1 3) := rm1 f2.1.2.1 (by decide)
      have eO := kE_hoursOf (L := L) f2.1 f2.2.2.1 f2.2.2.2 hHB hS
      obtain ⟨o1, o2⟩ := wkF_ok (A := A) (T := T) (sM := sM) (p := p) (h := hoF A H) S
      have ho := hoF_le (A := A) (H := H) S
      rw [show wkF A T sM p (hoF A H) (S + 1) = wkB A T sM p (hoF A H) S (wkF A T sM p (hoF A H) S) from rfl]
      generalize wkF A T sM p (hoF A H) S = z at o1 o2
      obtain ⟨b, l⟩ := z
      dsimp only at o1 o2 ⊢
      by_cases c : hoF A H S < l
      · obtain ⟨U', a1, a2, a3⟩ := kE_walk74 (L := L) hHB f2 hp hS w (enO b) (nI l)
        refine ⟨U', ?_, f1.tr a2, a3⟩
        cases d : a_can (seeS A p S (lA A 1 3)) T sM p
        · rw [wkB_2 d]
          rw [d] at a1
          simp only [Bool.false_eq_true, if_false] at a1
          simp (disch := omega) only [fX3_walk_L47_b, nL, nI_add, nJ_mul, nJ_div, nJ_mod, nI_leI, nI_ltI, nI_eq, Option.bind_some, Option.bind_none, Nat.one_ne_zero, Nat.zero_ne_one, Nat.zero_add, Nat.add_zero, if_true, if_false, not_true_eq_false, not_false_eq_true, gm1 M, xm137 M, r3, ef, show ¬ 2 ^ lA A 1 3 ≤ S by omega, dm M, eO, show ¬ l ≤ hoF A H S by omega, a1]
        · rw [wkB_1 (z := (b, l)) c d]
          rw [d] at a1
          simp only [if_true] at a1
          simp (disch := omega) only [fX3_walk_L47_b, nL, nI_add, nJ_mul, nJ_div, nJ_mod, nI_leI, nI_ltI, nI_eq, Option.bind_some, Option.bind_none, Nat.one_ne_zero, Nat.zero_ne_one, Nat.zero_add, Nat.add_zero, if_true, if_false, not_true_eq_false, not_false_eq_true, gm1 M, xm137 M, r3, ef, show ¬ 2 ^ lA A 1 3 ≤ S by omega, dm M, eO, show ¬ l ≤ hoF A H S by omega, a1, enO_s]
      · refine ⟨U, ?_, f1, f2⟩
        rw [wkB_3 (z := (b, l)) c]
        simp (disch := omega) only [fX3_walk_L47_b, fX3_walk_L154, nL, nI_add, nJ_mul, nJ_div, nJ_mod, nI_leI, nI_ltI, nI_eq, Option.bind_some, Option.bind_none, Nat.one_ne_zero, Nat.zero_ne_one, Nat.zero_add, Nat.add_zero, if_true, if_false, not_true_eq_false, not_false_eq_true, gm1 M, xm137 M, r3, ef, show ¬ 2 ^ lA A 1 3 ≤ S by omega, dm M, eO, show l ≤ hoF A H S by omega]
    · rintro U ⟨f1, f2⟩
      have r3 : U 137 3 = nI (lA A 1 3) := rm1 f2.1.2.1 (by decide)
      obtain ⟨o1, o2⟩ := wkF_ok (A := A) (T := T) (sM := sM) (p := p) (h := hoF A H) (2 ^ lA A 1 3)
      generalize wkF A T sM p (hoF A H) (2 ^ lA A 1 3) = z at o1 o2
      obtain ⟨b, l⟩ := z
      dsimp only at o1 o2 ⊢
      cases b with
      | none => exact ⟨_, by simp (disch := omega) only [fX3_walk_L47_b, fX3_walk_L171, nL, nI_add, nJ_mul, nJ_div, nJ_mod, nI_leI, nI_ltI, nI_eq, Option.bind_some, Option.bind_none, Nat.one_ne_zero, Nat.zero_ne_one, Nat.zero_add, Nat.add_zero, if_true, if_false, not_true_eq_false, not_false_eq_true, gm1 M, xm137 M, r3, ef, Nat.le_refl, enO_n, xr_s, true_or] <;> rfl, U, rfl, f1, f2.1⟩
      | some k =>
        have hk := o2 k rfl
        have e2 := nI_m2 (p := k) (by omega)
        by_cases c : w = nI 1
        · exact ⟨_, by simp (disch := omega) only [fX3_walk_L47_b, fX3_walk_L171, nL, nI_add, nJ_mul, nJ_div, nJ_mod, nI_leI, nI_ltI, nI_eq, Option.bind_some, Option.bind_none, Nat.one_ne_zero, Nat.zero_ne_one, Nat.zero_add, Nat.add_zero, if_true, if_false, not_true_eq_false, not_false_eq_true, gm1 M, xm137 M, r3, ef, Nat.le_refl, enO_s, e2, c, xr_s] <;> rfl, U, by rw [if_pos (Or.inr c)]; rfl, f1, f2.1⟩
        · exact ⟨_, by simp (disch := omega) only [fX3_walk_L47_b, fX3_walk_L171, nL, nI_add, nJ_mul, nJ_div, nJ_mod, nI_leI, nI_ltI, nI_eq, Option.bind_some, Option.bind_none, Nat.one_ne_zero, Nat.zero_ne_one, Nat.zero_add, Nat.add_zero, if_true, if_false, not_true_eq_false, not_false_eq_true, gm1 M, xm137 M, r3, ef, Nat.le_refl, enO_s, e2, c, xr_s] <;> rfl, U, by rw [if_neg (by simp [c])], f1, f2.1⟩
  obtain ⟨t, a1, J', rfl, a2⟩ := this
  exact ⟨J', a1, a2⟩
/-- TruthBridge's spare Gorge stands as the land does, but for what acts change -/
def spS (I : iF) (L : lF_) (A : ld_t) : Prop := ∃ B, glS I L 80 B ∧ (∀ f i, stF f i → lA A f i = lA B f i) ∧ lP A = lP B
theorem bK_walkGood (K : bK q 66 I L A T sM) (hl : ph_R q 64 2 = some 66) (hS0 : spS I L A) {p S : Nat} (hp : p < lA A 1 2) (hS : S < 64) : ∃ I' L', fX0_isWalkGood 64 (nI p) (nI S) (hw q I L) = some (nI (if a_can (seeS A p S (lA A 1 3)) T sM p then 1 else 0), hw q I' L') ∧ frG 80 I I' ∧ frH 80 L L' ∧ spS I' L' A := by
  obtain ⟨X, G, R, hT, hsM, W, h24, -⟩ := id K
  have w3 := W.1.2.2.2.1
  obtain ⟨B, hB, hB1, hB2⟩ := hS0
  obtain ⟨I1, L1, a1, a2, a3, a4⟩ := bK_stands (L := L) K X.spare (by decide) (by decide) hB hB1 hB2
  have G8 := X.spare
  have s14 : ∀ U : lF_, gR (hw q I1 U) (some 80) 1 14 = some (some 86) := fun U => gg14 G8
  have t14 : ∀ (U : lF_) k, k < 6 → xI (hw q I1 U) (some 86) 20 (nI k) = some (I1 86 k) := fun U k hk => xg14 G8 hk
  have r3 : I1 80 3 = nI (lA A 1 3) := a4.2.2.1.f3
  have r7 : ∀ k, k < lA A 1 3 → I1 86 k = nI (lA A 7 k) := fun k hk => a4.2.2.1.p6 hk
  have : ∃ t, fX0_isWalkGood_L15 64 (nI p) (nI S) (some 80) (nI 0) (hw q I1 L1) = some t ∧ ∃ L', t = (nI (if a_can (seeS A p S (lA A 1 3)) T sM p then 1 else 0), hw q I1 L') ∧ frH 80 L1 L' ∧ bK q 80 I1 L' (seeS A p S (lA A 1 3)) T sM := by
    unfold fX0_isWalkGood_L15
    refine whl_st (α := lF_) (fun k U => (nI k, hw q I1 U)) (fun k U => frH 80 L1 U ∧ bK q 80 I1 U (seeS A p S k) T sM) (lA A 1 3) (a := L1) rfl ⟨frH.rf, a4⟩ ?_ ?_
    · rintro k U hk ⟨f1, f2⟩
      cases c : S.testBit k
      · rw [seeS_0 c]
        exact ⟨U, by simp (disch := omega) only [fX0_isWalkGood_L15_b, fX0_isWalkGood_L45, nL, nI_add, nJ_mul, nJ_div, nJ_mod, nI_leI, nI_ltI, nI_eq, Option.bind_some, Option.bind_none, Nat.one_ne_zero, Nat.zero_ne_one, Nat.zero_add, Nat.add_zero, if_true, if_false, not_true_eq_false, not_false_eq_true, gg_I G8, r3, show ¬ lA A 1 3 ≤ k by omega, bE_hasN, c, Bool.false_eq_true], f1, f2⟩
      · rw [seeS_1 c]
        obtain ⟨U', b1, b2, b3⟩ := bK_see (L := U) f2 (who := p) (f := lA A 7 k) (by rw [seeS_A]; exact Or.inl hp) (by rw [seeS_A]; exact W.2.2.1 k hk)
        exact ⟨U', by simp (disch := omega) only [fX0_isWalkGood_L15_b, fX0_isWalkGood_L45, nL, nI_add, nJ_mul, nJ_div, nJ_mod, nI_leI, nI_ltI, nI_eq, Option.bind_some, Option.bind_none, Nat.one_ne_zero, Nat.zero_ne_one, Nat.zero_add, Nat.add_zero, if_true, if_false, not_true_eq_false, not_false_eq_true, gg_I G8, r3, show ¬ lA A 1 3 ≤ k by omega, bE_hasN, c, s14, t14, r7 k hk, dg G8, b1], f1.tr b2.fr, b3⟩
    · rintro U ⟨f1, f2⟩
      have eC := bK_hasWay (L := U) f2 (p := p) (by rw [seeS_A]; exact hp)
      exact ⟨_, by simp (disch := omega) only [fX0_isWalkGood_L15_b, nL, nI_add, nJ_mul, nJ_div, nJ_mod, nI_leI, nI_ltI, nI_eq, Option.bind_some, Option.bind_none, Nat.one_ne_zero, Nat.zero_ne_one, Nat.zero_add, Nat.add_zero, if_true, if_false, not_true_eq_false, not_false_eq_true, gg_I G8, r3, Nat.le_refl, dx X, eC, rz_n, xr_s] <;> rfl, U, rfl, f1, f2⟩
  obtain ⟨t, b1, L2, rfl, b2, b3⟩ := this
  refine ⟨I1, L2, ?_, a2, a3.tr b2, seeS A p S (lA A 1 3), b3.2.2.1.S, fun f i _ => (seeS_A f i _).symm, (seeS_P _).symm⟩
  simp (disch := omega) only [fX0_isWalkGood, nL, nI_add, nJ_mul, nJ_div, nJ_mod, nI_leI, nI_ltI, nI_eq, Option.bind_some, Option.bind_none, Nat.one_ne_zero, Nat.zero_ne_one, Nat.zero_add, Nat.add_zero, if_true, if_false, not_true_eq_false, not_false_eq_true, gx4 X, gx2 X hl, dg G8, a1, b1]
theorem bK_walk58 (K : bK q 66 I L A T sM) (hl : ph_R q 64 2 = some 66) (hS0 : spS I L A) {H : Nat → Nat} (hHB : ∀ j, H j ≤ 100000) (hH : hrX I (lA A 1 3) H (6 * 2 ^ lA A 1 3)) {p : Nat} (hp : p < lA A 1 2) (w : Int32) : ∃ I' L', fX0_walk_L58 64 (nI p) w (-(nI 2)) (nI (25 - lA A 5 p)) (nI 0) (hw q I L) = some (if (wkF A T sM p (hoF A H) (2 ^ lA A 1 3)).1 = none ∨ w = nI 1 then enO (wkF A T sM p (hoF A H) (2 ^ lA A 1 3)).1 else nI (wkF A T sM p (hoF A H) (2 ^ lA A 1 3)).2, hw q I' L') ∧ frG 80 I I' ∧ frH 80 L L' := by
  obtain ⟨X, G, R, hT, hsM, W, h24, -⟩ := id K
  have w3 := W.1.2.2.2.1
  have hp6 : 2 ^ lA A 1 3 ≤ 2 ^ 6 := Nat.pow_le_pow_right (by decide) w3
  have ef := nJ_shl (k := lA A 1 3) (by omega)
  rw [nL 1] at ef
  have : ∃ t, fX0_walk_L58 64 (nI p) w (-(nI 2)) (nI (25 - lA A 5 p)) (nI 0) (hw q I L) = some t ∧ ∃ I' L', t = (if (wkF A T sM p (hoF A H) (2 ^ lA A 1 3)).1 = none ∨ w = nI 1 then enO (wkF A T sM p (hoF A H) (2 ^ lA A 1 3)).1 else nI (wkF A T sM p (hoF A H) (2 ^ lA A 1 3)).2, hw q I' L') ∧ frG 80 I I' ∧ frH 80 L L' := by
    unfold fX0_walk_L58
    refine whl_st (α := iF × lF_) (fun S U => (enO (wkF A T sM p (hoF A H) S).1, nI (wkF A T sM p (hoF A H) S).2, nI S, hw q U.1 U.2)) (fun S U => frG 80 I U.1 ∧ frH 80 L U.2 ∧ spS U.1 U.2 A) (2 ^ lA A 1 3) (a := (I, L)) rfl ⟨frG.rf, frH.rf, hS0⟩ ?_ ?_
    · rintro S ⟨U, N⟩ hS ⟨f1, f2, f3⟩
      dsimp only at f1 f2 f3 ⊢
      have KU := K.off (g' := 80) (by decide) (by decide) f1 f2
      have RU := KU.2.2.1
      have eO := bK_walkOf (L := N) KU hl hHB (by intro j hj h6; rw [f1 133 (by omega)]; exact hH j hj h6) hS
      obtain ⟨o1, o2⟩ := wkF_ok (A := A) (T := T) (sM := sM) (p := p) (h := hoF A H) S
      rw [show wkF A T sM p (hoF A H) (S + 1) = wkB A T sM p (hoF A H) S (wkF A T sM p (hoF A H) S) from rfl]
      generalize wkF A T sM p (hoF A H) S = z at o1 o2
      obtain ⟨b, l⟩ := z
      dsimp only at o1 o2 ⊢
      by_cases c : hoF A H S < l
      · obtain ⟨U', N', a1, a2, a3, a4⟩ := bK_walkGood (L := N) KU hl f3 hp (S := S) (by omega)
        have KU' := KU.off (g' := 80) (by decide) (by decide) a2 a3
        have eO' := bK_walkOf (L := N') KU' hl hHB (by intro j hj h6; rw [a2 133 (by omega), f1 133 (by omega)]; exact hH j hj h6) hS
        rw [Nat.min_eq_left (show hoF A H S ≤ 9999 by omega)] at eO eO'
        refine ⟨(U', N'), ?_, f1.tr a2, f2.tr a3, a4⟩
        dsimp only
        cases d : a_can (seeS A p S (lA A 1 3)) T sM p
        · rw [wkB_2 d]
          simp (disch := omega) only [fX0_walk_L58_b, fX0_walk_L107, nL, nI_add, nJ_mul, nJ_div, nJ_mod, nI_leI, nI_ltI, nI_eq, Option.bind_some, Option.bind_none, Nat.one_ne_zero, Nat.zero_ne_one, Nat.zero_add, Nat.add_zero, if_true, if_false, not_true_eq_false, not_false_eq_true, gx2 X hl, gl_I G, RU.f3, ef, show ¬ 2 ^ lA A 1 3 ≤ S by omega, dx X, eO, show ¬ l ≤ hoF A H S by omega, a1, d, Bool.false_eq_true]
        · rw [wkB_1 (z := (b, l)) c d]
          simp (disch := omega) only [fX0_walk_L58_b, fX0_walk_L107, nL, nI_add, nJ_mul, nJ_div, nJ_mod, nI_leI, nI_ltI, nI_eq, Option.bind_some, Option.bind_none, Nat.one_ne_zero, Nat.zero_ne_one, Nat.zero_add, Nat.add_zero, if_true, if_false, not_true_eq_false, not_false_eq_true, gx2 X hl, gl_I G, RU.f3, ef, show ¬ 2 ^ lA A 1 3 ≤ S by omega, dx X, eO, show ¬ l ≤ hoF A H S by omega, a1, d, eO', enO_s]
      · refine ⟨(U, N), ?_, f1, f2, f3⟩
        rw [wkB_3 (z := (b, l)) c]
        have : l ≤ min (hoF A H S) 9999 := by omega
        simp (disch := omega) only [fX0_walk_L58_b, fX0_walk_L107, nL, nI_add, nJ_mul, nJ_div, nJ_mod, nI_leI, nI_ltI, nI_eq, Option.bind_some, Option.bind_none, Nat.one_ne_zero, Nat.zero_ne_one, Nat.zero_add, Nat.add_zero, if_true, if_false, not_true_eq_false, not_false_eq_true, gx2 X hl, gl_I G, RU.f3, ef, show ¬ 2 ^ lA A 1 3 ≤ S by omega, dx X, eO, this]
    · rintro ⟨U, N⟩ ⟨f1, f2, f3⟩
      dsimp only at f1 f2 f3 ⊢
      have KU := K.off (g' := 80) (by decide) (by decide) f1 f2
      have RU := KU.2.2.1
      obtain ⟨o1, o2⟩ := wkF_ok (A := A) (T := T) (sM := sM) (p := p) (h := hoF A H) (2 ^ lA A 1 3)
      generalize wkF A T sM p (hoF A H) (2 ^ lA A 1 3) = z at o1 o2
      obtain ⟨b, l⟩ := z
      dsimp only at o1 o2 ⊢
      cases b with
      | none => exact ⟨_, by simp (disch := omega) only [fX0_walk_L58_b, fX0_walk_L124, nL, nI_add, nJ_mul, nJ_div, nJ_mod, nI_leI, nI_ltI, nI_eq, Option.bind_some, Option.bind_none, Nat.one_ne_zero, Nat.zero_ne_one, Nat.zero_add, Nat.add_zero, if_true, if_false, not_true_eq_false, not_false_eq_true, gx2 X hl, gl_I G, RU.f3, ef, Nat.le_refl, enO_n, xr_s, true_or] <;> rfl, U, N, rfl, f1, f2⟩
      | some k =>
        have hk := o2 k rfl
        have e2 := nI_m2 (p := k) (by omega)
        by_cases c : w = nI 1
        · exact ⟨_, by simp (disch := omega) only [fX0_walk_L58_b, fX0_walk_L124, nL, nI_add, nJ_mul, nJ_div, nJ_mod, nI_leI, nI_ltI, nI_eq, Option.bind_some, Option.bind_none, Nat.one_ne_zero, Nat.zero_ne_one, Nat.zero_add, Nat.add_zero, if_true, if_false, not_true_eq_false, not_false_eq_true, gx2 X hl, gl_I G, RU.f3, ef, Nat.le_refl, enO_s, e2, c, xr_s] <;> rfl, U, N, by rw [if_pos (Or.inr c)]; rfl, f1, f2⟩
        · exact ⟨_, by simp (disch := omega) only [fX0_walk_L58_b, fX0_walk_L124, nL, nI_add, nJ_mul, nJ_div, nJ_mod, nI_leI, nI_ltI, nI_eq, Option.bind_some, Option.bind_none, Nat.one_ne_zero, Nat.zero_ne_one, Nat.zero_add, Nat.add_zero, if_true, if_false, not_true_eq_false, not_false_eq_true, gx2 X hl, gl_I G, RU.f3, ef, Nat.le_refl, enO_s, e2, c, xr_s] <;> rfl, U, N, by rw [if_neg (by simp [c])], f1, f2⟩
  obtain ⟨t, a1, I', L', rfl, a2⟩ := this
  exact ⟨I', L', a1, a2⟩
theorem wkF_cg {h h' : Nat → Nat} {p : Nat} (n : Nat) (e : ∀ S, S < n → h S = h' S) : wkF A T sM p h n = wkF A T sM p h' n := by
  unfold wkF
  exact fo_cg rfl n (fun i x hi => by unfold wkB; rw [e i hi])
theorem J_walk (J : jK q I L A T sM) (v w : Int32) : jO q I L T sM (fX0_walk 64 v w) (fX3_walk 136 v w) := by
  obtain ⟨K, B, V⟩ := id J
  obtain ⟨M, RM, hTM, hsM, W, h24⟩ := id K
  have X := B.1
  have w2 := W.1.2.2.1
  have w3 := W.1.2.2.2.1
  have x1 := bL_isPerson B v
  have m1 := kE_isPerson (L := L) K v
  have x2 := xin_lit (v := w) (lo := 0) (hi := 1) (l := 0) (k := 1) (by decide +kernel) (by decide +kernel) (hw q I L)
  have m2 := in_lit (v := w) (lo := 0) (hi := 1) (l := 0) (k := 1) (by decide +kernel) (by decide +kernel) (hw q I L)
  cases c : inB v (lA A 1 2)
  · exact jO_same J (r := -(nI 1)) (by simp (disch := omega) only [fX0_walk, nL, nI_add, nJ_mul, nJ_div, nJ_mod, nI_leI, nI_ltI, nI_eq, Option.bind_some, Option.bind_none, Nat.one_ne_zero, Nat.zero_ne_one, Nat.zero_add, Nat.add_zero, if_true, if_false, not_true_eq_false, not_false_eq_true, dx X, x1, c, Bool.false_eq_true]) (by simp (disch := omega) only [fX3_walk, nL, nI_add, nJ_mul, nJ_div, nJ_mod, nI_leI, nI_ltI, nI_eq, Option.bind_some, Option.bind_none, Nat.one_ne_zero, Nat.zero_ne_one, Nat.zero_add, Nat.add_zero, if_true, if_false, not_true_eq_false, not_false_eq_true, dm M, m1, c, Bool.false_eq_true])
  · cases c2 : inR w 0 1
    · exact jO_same J (r := -(nI 1)) (by simp (disch := omega) only [fX0_walk, nL, nI_add, nJ_mul, nJ_div, nJ_mod, nI_leI, nI_ltI, nI_eq, Option.bind_some, Option.bind_none, Nat.one_ne_zero, Nat.zero_ne_one, Nat.zero_add, Nat.add_zero, if_true, if_false, not_true_eq_false, not_false_eq_true, dx X, x1, c, x2, c2, Bool.false_eq_true]) (by simp (disch := omega) only [fX3_walk, nL, nI_add, nJ_mul, nJ_div, nJ_mod, nI_leI, nI_ltI, nI_eq, Option.bind_some, Option.bind_none, Nat.one_ne_zero, Nat.zero_ne_one, Nat.zero_add, Nat.add_zero, if_true, if_false, not_true_eq_false, not_false_eq_true, dm M, m1, c, m2, c2, Bool.false_eq_true])
    · obtain ⟨p, hp, rfl⟩ := inB_of c (by omega)
      have h0 := B.pos (j := 2) (by decide) (by omega)
      obtain ⟨KB, hl⟩ := B.K h0
      obtain ⟨-, G, R, -⟩ := id KB
      have wh := (W.2.1 p hp).2.2.2.2.1
      obtain ⟨_, H, -, -, hH⟩ := kE_laysWalks (L := L) K
      obtain ⟨I1, a1, a2, a3⟩ := bK_fillsWalks (L := L) KB hl hH
      have KB1 : bK q 66 I1 L A T sM := ⟨X, G, glR_keep W R (fun a b1 b2 => a2 a (by omega)) (fun _ _ _ => rfl), KB.2.2.2.1, by rw [a2 64 (by decide)]; exact KB.2.2.2.2.1, W, h24, Nat.le_refl _⟩
      obtain ⟨I2, L2, b1, b2, b3, b4⟩ := bK_copies (L := L) KB1 X.spare (by decide) (by decide)
      have KB2 := KB1.off (g' := 80) (by decide) (by decide) b2 b3
      obtain ⟨I3, L3, d1, d2, d3⟩ := bK_walk58 (L := L2) KB2 hl ⟨A, b4.2.2.1.S, fun _ _ _ => rfl, rfl⟩ hH.1 (by intro j hj h6; rw [b2 133 (by omega)]; exact a3 j hj h6) hp w
      have KB3 := KB2.off (g' := 80) (by decide) (by decide) d2 d3
      have fX1 : frX I I1 := ⟨fun a ha => a2 a (by omega), fun j _ _ _ _ _ _ _ => by rw [a2 64 (by decide)]⟩
      have fX : frX I I3 := (fX1.tr (b2.X (Or.inr rfl))).tr (d2.X (Or.inr rfl))
      have fL : frXL L L3 := (b3.X (Or.inr rfl)).tr (d3.X (Or.inr rfl))
      have K3 := K.X fX
      obtain ⟨J1, H', e1, e2, hH'⟩ := kE_laysWalks (L := L3) K3
      have KJ1 : mK q J1 A T sM := K3.keep (fun a ha => e2.1 a (by omega) (by omega)) (by rw [e2.1 136 (by decide) (by decide)]) (by rw [e2.1 136 (by decide) (by decide)])
      obtain ⟨J2, f1, f2, f3, f4, f5, f6⟩ := kE_keepsAll (L := L3) KJ1
      obtain ⟨J3, g1, g2, g3⟩ := kE_walk47 (L := L3) (H := H') (J := J2) hH'.1 ⟨f6, f5, fun j hj => by rw [f3 178 (by decide) (by decide) (by decide)]; exact e2.2.1 j hj, fun j hj => by rw [f3 186 (by decide) (by decide) (by decide)]; exact e2.2.2 j hj⟩ hp w
      rw [wkF_cg (A := A) (T := T) (sM := sM) (h := hoF A H') (h' := hoF A H) _ (fun S hS => hoF_un w3 hH hH' hS)] at g1
      have m1 := kE_isPerson (L := L3) K3 (nI p)
      have m2 := in_lit (v := w) (lo := 0) (hi := 1) (l := 0) (k := 1) (by decide +kernel) (by decide +kernel) (hw q I3 L3)
      have q141 : J1 141 p = nI (lA A 5 p) := rm5 KJ1.2.1 hp
      have q70 : I2 70 p = nI (lA A 5 p) := rl4 KB2.2.2.1 hp
      have hsub : (nI 24 - nI (lA A 5 p)) + nI 1 = nI (25 - lA A 5 p) := by
        rw [nJ_sub wh, nI_add]
        congr 1
        omega
      refine jO_mk (I1 := I3) (L1 := L3) (r := if (wkF A T sM p (hoF A H) (2 ^ lA A 1 3)).1 = none ∨ w = nI 1 then enO (wkF A T sM p (hoF A H) (2 ^ lA A 1 3)).1 else nI (wkF A T sM p (hoF A H) (2 ^ lA A 1 3)).2) ?_ fX fL (KB3.toL hl h0 (by rw [d2 64 (by omega), b2 64 (by omega), a2 64 (by decide)]; exact B.2.2.2.1)) V ⟨J3, L3, ?_, ((frT_row (fun a h1 h2 => e2.1 a (by omega) (by omega)) (fun j hj => by rw [e2.1 136 (by decide) (by decide)])).tr f2).tr g2, frTL.rf, g3⟩
      · generalize (if (wkF A T sM p (hoF A H) (2 ^ lA A 1 3)).1 = none ∨ w = nI 1 then enO (wkF A T sM p (hoF A H) (2 ^ lA A 1 3)).1 else nI (wkF A T sM p (hoF A H) (2 ^ lA A 1 3)).2) = r at d1
        simp (disch := omega) only [fX0_walk, nm_, nL, nI_add, nJ_mul, nJ_div, nJ_mod, nI_leI, nI_ltI, nI_eq, Option.bind_some, Option.bind_none, Nat.one_ne_zero, Nat.zero_ne_one, Nat.zero_add, Nat.add_zero, if_true, if_false, not_true_eq_false, not_false_eq_true, dx X, x1, c, x2, c2, a1, gx4 X, gx2 X hl, dg X.spare, b1, gl12 G, xl12 G, q70]
        rw [hsub]
        exact d1
      · generalize (if (wkF A T sM p (hoF A H) (2 ^ lA A 1 3)).1 = none ∨ w = nI 1 then enO (wkF A T sM p (hoF A H) (2 ^ lA A 1 3)).1 else nI (wkF A T sM p (hoF A H) (2 ^ lA A 1 3)).2) = r at g1
        simp (disch := omega) only [fX3_walk, nm_, nL, nI_add, nJ_mul, nJ_div, nJ_mod, nI_leI, nI_ltI, nI_eq, Option.bind_some, Option.bind_none, Nat.one_ne_zero, Nat.zero_ne_one, Nat.zero_add, Nat.add_zero, if_true, if_false, not_true_eq_false, not_false_eq_true, dm M, m1, c, m2, c2, e1, gm5 M, xm141 M, q141, f1]
        rw [hsub]
        exact g1
end JJ3
