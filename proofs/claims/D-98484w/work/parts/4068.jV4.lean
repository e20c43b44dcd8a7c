/-! P2 JV4: both answer: back -/
section JV4
variable {q : ph_t} {I : iF} {L : lF_} {A : ld_t} {T : Nat → Nat → Bool} {sM : Nat}
theorem wRr {q : ph_t} {a k b j : Nat} {v : Option Nat} : ph_R (ph_wR q a k v) b j = if b = a ∧ j = k then v else ph_R q b j := rfl
theorem wr_X {q : ph_t} {v : Option Nat} : qX q (ph_wR q 64 2 v) := ⟨fun _ _ => ⟨rfl, rfl⟩, fun b j _ _ _ h => by
  show (if b = 64 ∧ j = 2 then v else ph_R q b j) = _
  rw [if_neg h], Nat.le_refl _⟩
theorem J_back (J : jK q I L A T sM) (hO : trOK A sM) (hz : 190 ≤ ph_z q) (Z : zOK q I L) (hIm : jIm q I L sM) (v : Int32) : ∃ r h1 q2 I2 L2 A2, fX0_back 64 v (hw q I L) = some (r, h1) ∧ fX3_back 136 v h1 = some (r, hw q2 I2 L2) ∧ jK q2 I2 L2 A2 T sM ∧ trOK A2 sM ∧ zOK q2 I2 L2 ∧ jIm q2 I2 L2 sM ∧ jFr q I I2 L L2 ∧ qX q q2 ∧ ph_R q2 127 = ph_R q 127 ∧ ph_z q2 = ph_z q ∧ ph_s q2 = ph_s q := by
  obtain ⟨K, B, V⟩ := id J
  have M := K.1
  have X := B.1
  have x1 := fun g => xin_lit (v := v) (lo := 0) (hi := 3) (l := 0) (k := 3) (by decide +kernel) (by decide +kernel) g
  have m1 := fun g => in_lit (v := v) (lo := 0) (hi := 3) (l := 0) (k := 3) (by decide +kernel) (by decide +kernel) g
  cases c : inR v 0 3
  · exact ⟨-(nI 1), hw q I L, q, I, L, A, by simp (disch := omega) only [fX0_back, nL, nI_add, nJ_mul, nJ_div, nJ_mod, nI_leI, nI_ltI, nI_eq, Option.bind_some, Option.bind_none, Nat.one_ne_zero, Nat.zero_ne_one, Nat.zero_add, Nat.add_zero, if_true, if_false, not_true_eq_false, not_false_eq_true, x1, c, Bool.false_eq_true], by simp (disch := omega) only [fX3_back, nL, nI_add, nJ_mul, nJ_div, nJ_mod, nI_leI, nI_ltI, nI_eq, Option.bind_some, Option.bind_none, Nat.one_ne_zero, Nat.zero_ne_one, Nat.zero_add, Nat.add_zero, if_true, if_false, not_true_eq_false, not_false_eq_true, m1, c, Bool.false_eq_true], J, hO, Z, hIm, jFr.rf, qX.rf, rfl, rfl, rfl⟩
  · obtain ⟨k, -, hk, rfl⟩ := inR_of c (by omega)
    have hk : k < 4 := by omega
    have e1 := fun (U : iF) (N : lF_) => x135 (I := U) (L := N) X hk
    rcases hIm.1 k hk with ⟨d1, d2⟩ | ⟨d1, z, C, d2⟩
    · rw [d2] at e1
      exact ⟨-(nI 1), hw q I L, q, I, L, A, by simp (disch := omega) only [fX0_back, nL, nI_add, nJ_mul, nJ_div, nJ_mod, nI_leI, nI_ltI, nI_eq, Option.bind_some, Option.bind_none, Nat.one_ne_zero, Nat.zero_ne_one, Nat.zero_add, Nat.add_zero, if_true, if_false, not_true_eq_false, not_false_eq_true, x1, c, gx29 X, e1, nq_0], by simp (disch := omega) only [fX3_back, nL, nI_add, nJ_mul, nJ_div, nJ_mod, nI_leI, nI_ltI, nI_eq, Option.bind_some, Option.bind_none, Nat.one_ne_zero, Nat.zero_ne_one, Nat.zero_add, Nat.add_zero, if_true, if_false, not_true_eq_false, not_false_eq_true, m1, c, gm74 M, xm189 M, d1], J, hO, Z, hIm, jFr.rf, qX.rf, rfl, rfl, rfl⟩
    · obtain ⟨r1, r2, r3, r4, r5, r6, r7, r8, r9, r10, r11, r12⟩ := id d2
      rw [r1] at e1
      have g5 : ∀ (J : iF) (N : lF_) (f : Nat), gI (hw q J N) (some z) 5 f = some (J z f) := fun J N f => by exact if_pos r4
      have g0 : ∀ (J : iF) (N : lF_), gR (hw q J N) (some z) 5 0 = some (some (z + 1)) := fun J N => by
        refine (if_pos r4).trans ?_
        exact congrArg some r5
      have sr : ∀ (J : iF) (N : lF_) (v : Option Nat), sR (hw q J N) (some 64) 0 2 v = some (hw (ph_wR q 64 2 v) J N) := fun J N v => by exact if_pos X.1
      -- the bridge
      have : ∃ I1 L1 w, fX0_back 64 (nI k) (hw q I L) = some (nI (lA C 1 6), hw (ph_wR q 64 2 w) I1 L1) ∧ (∀ a, (a < 64 ∨ a = 65 ∨ 80 ≤ a) → I1 a = I a) ∧ (∀ j, j ≠ 7 → I1 64 j = I 64 j) ∧ (∀ a, (a < 66 ∨ 80 ≤ a) → L1 a = L a) ∧ bL (ph_wR q 64 2 w) I1 L1 C T sM := by
        rcases r12 with ⟨c1, c2, c3⟩ | ⟨c1, c2⟩
        · have KC : bK q (z + 1) I L C T sM := ⟨X, r6, c2, B.2.1, B.2.2.1, r7, B.2.2.2.2.2.1, by omega⟩
          obtain ⟨I1, L1, a1, a2, a3, a4⟩ := bK_copies (L := L) KC X.land (by decide) (Or.inr (by omega))
          have X2 : XS (ph_wR q 64 2 (some 66)) := X.X wr_X hz
          have hl : ph_R (ph_wR q 64 2 (some 66)) 64 2 = some 66 := by rw [wRr, if_pos ⟨rfl, rfl⟩]
          have ez : I1 z 2 = nI (lA C 1 8) := by rw [a2 z (by omega)]; exact r11
          have K2 : bK (ph_wR q 64 2 (some 66)) 66 (ph_u I1 64 7 (nI (lA C 1 8))) L1 C T sM := by
            obtain ⟨-, G, R, hT, hsM, W, h24, hg⟩ := a4
            exact ⟨X2, X2.land, glR_keep W R (fun a a1 a2 => by rw [pu_ne (by omega)]) (fun _ _ _ => rfl), hT, by rw [pu_nk (by decide)]; exact hsM, W, h24, hg⟩
          have e2 := fun (U : iF) (N : lF_) => x135 (I := U) (L := N) X2 hk
          rw [show ph_R (ph_wR q 64 2 (some 66)) 135 k = ph_R q 135 k from by rw [wRr, if_neg (by omega)], r1] at e2
          have g52 : ∀ (J : iF) (N : lF_) (f : Nat), gI (hw (ph_wR q 64 2 (some 66)) J N) (some z) 5 f = some (J z f) := fun J N f => by exact if_pos r4
          have r6' : ph_u I1 64 7 (nI (lA C 1 8)) 66 6 = nI (lA C 1 6) := K2.2.2.1.f6
          have G2 : GS (ph_wR q 64 2 (some 66)) 66 := X2.land
          refine ⟨ph_u I1 64 7 (nI (lA C 1 8)), L1, some 66, ?_, fun a ha => by rw [pu_ne (by omega), a2 a (by omega)], fun j hj => by rw [pu_nk hj, a2 64 (by decide)], fun a ha => a3 a (by omega), K2.toL hl c3 (by rw [pu_eq])⟩
          simp (disch := omega) only [fX0_back, fX0_back_L56, nL, nI_add, nJ_mul, nJ_div, nJ_mod, nI_leI, nI_ltI, nI_eq, Option.bind_some, Option.bind_none, Nat.one_ne_zero, Nat.zero_ne_one, Nat.zero_add, Nat.add_zero, if_true, if_false, not_true_eq_false, not_false_eq_true, x1, c, gx29 X, e1, nq_z (show 64 ≤ z by omega), g5, c1, gx3 X, g0, dl X.land, a1, sr, gx29 X2, e2, g52, ez, sx_I X2, gx2 X2 hl, nq_66, gl_I G2, r6']
        · have X2 : XS (ph_wR q 64 2 none) := X.X wr_X hz
          have hn : ph_R (ph_wR q 64 2 none) 64 2 = none := by rw [wRr, if_pos ⟨rfl, rfl⟩]
          have e2 := fun (U : iF) (N : lF_) => x135 (I := U) (L := N) X2 hk
          rw [show ph_R (ph_wR q 64 2 none) 135 k = ph_R q 135 k from by rw [wRr, if_neg (by omega)], r1] at e2
          have g52 : ∀ (J : iF) (N : lF_) (f : Nat), gI (hw (ph_wR q 64 2 none) J N) (some z) 5 f = some (J z f) := fun J N f => by exact if_pos r4
          have d0 : lA C 1 6 = 0 := c2.1 6 (by decide)
          refine ⟨ph_u I 64 7 (nI (lA C 1 8)), L, none, ?_, fun a ha => by rw [pu_ne (by omega)], fun j hj => by rw [pu_nk hj], fun a ha => rfl, ⟨X2, B.2.1, by rw [pu_nk (by decide)]; exact B.2.2.1, by rw [pu_eq], r7, B.2.2.2.2.2.1, Or.inr ⟨hn, c2⟩⟩⟩
          rw [d0]
          simp (disch := omega) only [fX0_back, fX0_back_L56, nL, nI_add, nJ_mul, nJ_div, nJ_mod, nI_leI, nI_ltI, nI_eq, Option.bind_some, Option.bind_none, Nat.one_ne_zero, Nat.zero_ne_one, Nat.zero_add, Nat.add_zero, if_true, if_false, not_true_eq_false, not_false_eq_true, x1, c, gx29 X, e1, nq_z (show 64 ≤ z by omega), g5, c1, sr, gx29 X2, e2, g52, r11, sx_I X2, gx2n X2 hn, nq_0]
      obtain ⟨I1, L1, w, a1, a2, a3, a4, a5⟩ := this
      have M2 : MS (ph_wR q 64 2 w) := M.X wr_X hz
      have K1 : mK q I1 A T sM := K.keep (fun a ha => a2 a (by omega)) (by rw [a2 136 (by omega)]) (by rw [a2 136 (by omega)])
      have K2 : mK (ph_wR q 64 2 w) I1 A T sM := ⟨M2, K1.2⟩
      obtain ⟨I2, b1, b2, b3, b4⟩ := kE_carT (L := L1) K2 (k := k) (by omega) (mlI_row r7 (fun j _ _ => by rw [a2 188 (by omega)]) r10) r7
      have e6 : I2 137 6 = nI (lA C 1 6) := rm1 b4.2.1 (by decide)
      have d9 : I1 189 k = nI 1 := by rw [a2 189 (by omega)]; exact d1
      have h135 : ph_R (ph_wR q 64 2 w) 135 = ph_R q 135 := funext fun j => by rw [wRr, if_neg (by omega)]
      refine ⟨nI (lA C 1 6), _, ph_wR q 64 2 w, I2, L1, C, a1, ?_, ⟨b4, a5.keep (fun a c1 c2 => b2 a (by omega)) (fun _ _ _ => rfl), r8⟩, r9, fun a j ha => ?_, ⟨fun j hj => ?_, fun i j z z' hi hj hij hzi hzj => hIm.2 i j z z' hi hj hij (by rw [← h135]; exact hzi) (by rw [← h135]; exact hzj)⟩, ⟨fun a ha => by rw [b2 a (by omega), a2 a (by omega)], fun a ha => a4 a (by omega), fun j j7 _ _ _ _ _ _ => by rw [b2 64 (by omega), a3 j j7], fun j hj => by rw [b3 j (by omega) (by omega) (by omega), a2 136 (by omega)]⟩, wr_X, funext fun j => by rw [wRr, if_neg (by omega)], rfl, rfl⟩
      · simp (disch := omega) only [fX3_back, nL, nI_add, nJ_mul, nJ_div, nJ_mod, nI_leI, nI_ltI, nI_eq, Option.bind_some, Option.bind_none, Nat.one_ne_zero, Nat.zero_ne_one, Nat.zero_add, Nat.add_zero, if_true, if_false, not_true_eq_false, not_false_eq_true, m1, c, gm74 M2, xm189 M2, d9, dm M2, b1, gm1 M2, xm137 M2, e6]
      · have ha : ph_z q ≤ a := ha
        exact ⟨by rw [b2 a (by omega), a2 a (by omega)]; exact (Z a j ha).1, by rw [a4 a (by omega)]; exact (Z a j ha).2⟩
      · rw [b2 189 (by omega), a2 189 (by omega), h135]
        rcases hIm.1 j hj with ⟨c1, c2⟩ | ⟨c1, z', C', c2⟩
        · exact Or.inl ⟨c1, c2⟩
        · have := c2.2.1
          exact Or.inr ⟨c1, z', C', c2.keep wr_X (by rw [h135]) (Nat.le_refl _) (fun a f1 f2 => by rw [b2 a (by omega), a2 a (by omega)]) (fun a f1 f2 => a4 a (by omega)) (fun i _ _ => by rw [b2 188 (by omega), a2 188 (by omega)])⟩
end JV4
