/-! P2 JV3: both answer: image, back -/
section JV3
variable {q : ph_t} {I : iF} {L : lF_} {A : ld_t} {T : Nat → Nat → Bool} {sM : Nat}
/-- an image is laid, in both -/
theorem J_im {k : Nat} (J : jK q I L A T sM) (hO : trOK A sM) (hz : 190 ≤ ph_z q) (Z : zOK q I L) (hIm : ∀ j, j < 4 → j ≠ k → (I 189 j = nI 0 ∧ ph_R q 135 j = none) ∨ (I 189 j = nI 1 ∧ ∃ z B, imR q I L sM j z B)) (hD : ∀ k k' z z', k < 4 → k' < 4 → k ≠ k' → ph_R q 135 k = some z → ph_R q 135 k' = some z' → z + 14 < z' ∨ z' + 14 < z) {z : Nat} (hk : k < 4) (h1 : ph_R q 135 k = some z) (h190 : 190 ≤ z) (hzz : z + 14 < ph_z q) (h5 : ph_T q z = 5) (h0 : ph_R q z 0 = some (z + 1)) (G' : GS q (z + 1)) : ∃ h1 I2 L2, fX0_image_L36 64 (nI k) (hw q I L) = some (nI (lA A 1 6), h1) ∧ fX3_image 136 (nI k) h1 = some (nI (lA A 1 6), hw q I2 L2) ∧ jK q I2 L2 A T sM ∧ zOK q I2 L2 ∧ jIm q I2 L2 sM ∧ jFr q I I2 L L2 := by
  obtain ⟨K, B, V⟩ := J
  have M := K.1
  obtain ⟨I1, L1, a1, a2, a3, a4⟩ := bK_image36 B hk h1 h190 h5 h0 G'
  have B1 : bL q I1 L1 A T sM := B.keep (fun a b1 b2 => (a2 a (by omega)).1) (fun a b1 b2 => (a2 a (by omega)).2)
  have K1 : mK q (ph_u I1 189 k (nI 1)) A T sM := K.keep (fun a ha => by rw [pu_ne (by omega), (a2 a (by omega)).1]) (by rw [pu_ne (by decide), (a2 136 (by omega)).1]) (by rw [pu_ne (by decide), (a2 136 (by omega)).1])
  obtain ⟨I2, b1, b2, b3, b4, b5, b6⟩ := kE_carF (L := L1) K1 (k := k) (by omega)
  have m1 := fun g => in_lit (v := nI k) (lo := 0) (hi := 3) (l := 0) (k := 3) (by decide +kernel) (by decide +kernel) g
  have c1 : inR (nI k) 0 3 = true := inR_iff.mpr (by rw [nI_toInt (by omega)]; omega)
  have e6 : I2 137 6 = nI (lA A 1 6) := rm1 b6.2.1 (by decide)
  have eI : ∀ a, a ≠ 188 → a ≠ 180 → a ≠ 136 → a ≠ 189 → (a < z ∨ z + 14 < a) → I2 a = I a := fun a h1 h2 h3 h4 h5 => by rw [b2 a h1 h2 h3, pu_ne h4, (a2 a h5).1]
  have eJ : ∀ a, z ≤ a → I2 a = I1 a := fun a ha => by rw [b2 a (by omega) (by omega) (by omega), pu_ne (by omega)]
  refine ⟨hw q I1 L1, I2, L1, a1, ?_, ⟨b6, B1.keep (fun a b1' b2' => by rw [b2 a (by omega) (by omega) (by omega), pu_ne (by omega)]) (fun _ _ _ => rfl), V⟩, fun a j ha => ⟨by rw [eI a (by omega) (by omega) (by omega) (by omega) (by omega)]; exact (Z a j ha).1, by rw [(a2 a (by omega)).2]; exact (Z a j ha).2⟩, ⟨fun j hj => ?_, hD⟩, ⟨fun a ha => ?_, fun a ha => (a2 a ?_).2, fun j _ _ _ _ _ _ _ => by rw [eI 64 (by decide) (by decide) (by decide) (by decide) (by omega)], fun j hj => by rw [b3 j (by omega) (by omega), pu_ne (by decide), (a2 136 (by omega)).1]⟩⟩
  · simp (disch := omega) only [fX3_image, nL, nI_add, nJ_mul, nJ_div, nJ_mod, nI_leI, nI_ltI, nI_eq, Option.bind_some, Option.bind_none, Nat.one_ne_zero, Nat.zero_ne_one, Nat.zero_add, Nat.add_zero, if_true, if_false, not_true_eq_false, not_false_eq_true, m1, c1, gm74 M, ym189 M, nJ_and, Nat.and_self, dm M, b1, gm1 M, xm137 M, e6]
  · by_cases c : j = k
    · subst c
      refine Or.inr ⟨by rw [b2 189 (by decide) (by decide) (by decide), pu_eq], z, A, h1, h190, hzz, h5, h0, G', K.2.2.2.2.1, V, hO, b5, by rw [eJ z (Nat.le_refl _)]; exact a3, ?_⟩
      rcases a4 with ⟨d1, d2, d3⟩ | ⟨d1, d2⟩
      · exact Or.inl ⟨by rw [eJ z (Nat.le_refl _)]; exact d1, glR_keep K.2.2.2.2.1 d2 (fun a a1 a2 => eJ a (by omega)) (fun _ _ _ => rfl), d3⟩
      · exact Or.inr ⟨by rw [eJ z (Nat.le_refl _)]; exact d1, d2⟩
    · have e9 : I2 189 j = I 189 j := by rw [b2 189 (by decide) (by decide) (by decide), pu_nk c, (a2 189 (by omega)).1]
      rcases hIm j hj c with ⟨d1, d2⟩ | ⟨d1, z', B', d2⟩
      · exact Or.inl ⟨by rw [e9]; exact d1, d2⟩
      · refine Or.inr ⟨by rw [e9]; exact d1, z', B', d2.keep qX.rf rfl (Nat.le_refl _) (fun a f1 f2 => ?_) (fun a f1 f2 => ?_) (fun i f1 f2 => ?_)⟩
        · have := hD k j z z' hk hj (fun z => c z.symm) h1 d2.1
          have := d2.2.1
          exact eI a (by omega) (by omega) (by omega) (by omega) (by omega)
        · have := hD k j z z' hk hj (fun z => c z.symm) h1 d2.1
          exact (a2 a (by omega)).2
        · rw [b4 i (by omega), pu_ne (by decide), (a2 188 (by omega)).1]
  · by_cases c : z ≤ a ∧ a ≤ z + 14
    · exfalso
      have t : ∀ m, m < 15 → ph_T q (z + m) ≤ 5 ∨ 20 ≤ ph_T q (z + m) := fun m hm => by
        by_cases e : m = 0
        · subst e
          exact Or.inl (by rw [Nat.add_zero, h5]; exact Nat.le_refl _)
        · have := (G'.1 (m - 1) (by omega)).1
          rw [show z + 1 + (m - 1) = z + m by omega] at this
          rw [this]
          unfold gtg
          split
          · exact Or.inl (by decide)
          · split
            · exact Or.inr (by decide)
            · split
              · exact Or.inr (by decide)
              · exact Or.inr (by decide)
      have := t (a - z) (by omega)
      rw [show z + (a - z) = a by omega] at this
      omega
    · exact eI a (by omega) (by omega) (by omega) (by omega) (by omega)
  · by_cases c : z ≤ a ∧ a ≤ z + 14
    · exfalso
      have t : ∀ m, m < 15 → ph_T q (z + m) ≤ 5 ∨ 20 ≤ ph_T q (z + m) := fun m hm => by
        by_cases e : m = 0
        · subst e
          exact Or.inl (by rw [Nat.add_zero, h5]; exact Nat.le_refl _)
        · have := (G'.1 (m - 1) (by omega)).1
          rw [show z + 1 + (m - 1) = z + m by omega] at this
          rw [this]
          unfold gtg
          split
          · exact Or.inl (by decide)
          · split
            · exact Or.inr (by decide)
            · split
              · exact Or.inr (by decide)
              · exact Or.inr (by decide)
      have := t (a - z) (by omega)
      rw [show z + (a - z) = a by omega] at this
      omega
    · omega
theorem J_image (J : jK q I L A T sM) (hO : trOK A sM) (hz : 190 ≤ ph_z q) (Z : zOK q I L) (hIm : jIm q I L sM) (v : Int32) : ∃ r h1 q2 I2 L2, fX0_image 64 v (hw q I L) = some (r, h1) ∧ fX3_image 136 v h1 = some (r, hw q2 I2 L2) ∧ jK q2 I2 L2 A T sM ∧ zOK q2 I2 L2 ∧ jIm q2 I2 L2 sM ∧ jFr q I I2 L L2 ∧ qX q q2 ∧ ph_R q2 127 = ph_R q 127 ∧ ph_z q2 ≤ ph_z q + 15 ∧ ph_s q2 ≤ ph_s q + 1121 := by
  have X := J.2.1.1
  have x1 := fun g => xin_lit (v := v) (lo := 0) (hi := 3) (l := 0) (k := 3) (by decide +kernel) (by decide +kernel) g
  have m1 := fun g => in_lit (v := v) (lo := 0) (hi := 3) (l := 0) (k := 3) (by decide +kernel) (by decide +kernel) g
  cases c : inR v 0 3
  · exact ⟨-(nI 1), hw q I L, q, I, L, by simp (disch := omega) only [fX0_image, nL, nI_add, nJ_mul, nJ_div, nJ_mod, nI_leI, nI_ltI, nI_eq, Option.bind_some, Option.bind_none, Nat.one_ne_zero, Nat.zero_ne_one, Nat.zero_add, Nat.add_zero, if_true, if_false, not_true_eq_false, not_false_eq_true, x1, c, Bool.false_eq_true], by simp (disch := omega) only [fX3_image, nL, nI_add, nJ_mul, nJ_div, nJ_mod, nI_leI, nI_ltI, nI_eq, Option.bind_some, Option.bind_none, Nat.one_ne_zero, Nat.zero_ne_one, Nat.zero_add, Nat.add_zero, if_true, if_false, not_true_eq_false, not_false_eq_true, m1, c, Bool.false_eq_true], J, Z, hIm, jFr.rf, qX.rf, rfl, by omega, by omega⟩
  · obtain ⟨k, -, hk, rfl⟩ := inR_of c (by omega)
    have hk : k < 4 := by omega
    rcases hIm.1 k hk with ⟨d1, d2⟩ | ⟨d1, z, B', d2⟩
    · have hX := imq_X (q := q) (k := k)
      have h2 : ph_R (imq q k) 64 2 = ph_R q 64 2 := imq_lo (by omega) (by omega)
      have J' := J.X hX hz h2
      have Z' : zOK (imq q k) I L := fun a j ha => Z a j (by rw [imq_z] at ha; omega)
      have hk1 : ph_R (imq q k) 135 k = some (ph_z q) := if_pos ⟨rfl, rfl⟩
      have hj : ∀ j, j ≠ k → ph_R (imq q k) 135 j = ph_R q 135 j := fun j h => imq_lo (by omega) (by omega)
      obtain ⟨h1, I2, L2, a1, a2, a3, a4, a5, a6⟩ := J_im (k := k) J' hO (by rw [imq_z]; omega) Z' (fun j hj4 hjk => by
        rcases hIm.1 j hj4 with ⟨e1, e2⟩ | ⟨e1, z', B', e2⟩
        · exact Or.inl ⟨e1, by rw [hj j hjk]; exact e2⟩
        · exact Or.inr ⟨e1, z', B', e2.keep hX (hj j hjk) (Nat.le_refl _) (fun _ _ _ => rfl) (fun _ _ _ => rfl) (fun _ _ _ => rfl)⟩) (fun a b z z' ha hb hab hza hzb => by
        have lt : ∀ j z, j < 4 → j ≠ k → ph_R (imq q k) 135 j = some z → z + 14 < ph_z q := fun j z hj4 hjk hjz => by
          rw [hj j hjk] at hjz
          rcases hIm.1 j hj4 with ⟨e1, e2⟩ | ⟨e1, z', B', e2⟩
          · rw [e2] at hjz; cases hjz
          · rw [e2.1] at hjz
            cases hjz
            exact e2.2.2.1
        by_cases ca : a = k
        · subst ca
          rw [hk1] at hza
          cases hza
          exact Or.inr (lt b z' hb (fun z => hab z.symm) hzb)
        · by_cases cb : b = k
          · subst cb
            rw [hk1] at hzb
            cases hzb
            exact Or.inl (lt a z ha ca hza)
          · rw [hj a ca] at hza
            rw [hj b cb] at hzb
            exact hIm.2 a b z z' ha hb hab hza hzb) hk hk1 (by omega) (by rw [imq_z]; omega) (by rw [imq_T (by omega), if_neg (by omega), if_pos rfl]) (by
        show (if ph_z q = 135 ∧ 0 = k then _ else if ph_z q = ph_z q ∧ 0 = 0 then some (ph_z q + 1) else _) = _
        rw [if_neg (by omega), if_pos ⟨rfl, rfl⟩]) (imq_G hz)
      refine ⟨nI (lA A 1 6), h1, imq q k, I2, L2, ?_, a2, a3, a4, a5, ⟨fun a ha => a6.1 a ?_, fun a ha => a6.2.1 a ?_, a6.2.2⟩, hX, funext fun j => imq_lo (by omega) (by omega), by rw [imq_z]; omega, by rw [imq_s]; omega⟩
      · rw [x_image_new X Z hz hk d2]
        exact a1
      · rw [imq_z]
        by_cases ca : a < ph_z q
        · rw [(hX.1 a ca).1]; omega
        · omega
      · rw [imq_z]
        by_cases ca : a < ph_z q
        · rw [(hX.1 a ca).1]; omega
        · omega
    · obtain ⟨h1, I2, L2, a1, a2, a3, a4, a5, a6⟩ := J_im (k := k) J hO hz Z (fun j hj4 _ => hIm.1 j hj4) hIm.2 hk d2.1 d2.2.1 d2.2.2.1 d2.2.2.2.1 d2.2.2.2.2.1 d2.2.2.2.2.2.1
      refine ⟨nI (lA A 1 6), h1, q, I2, L2, ?_, a2, a3, a4, a5, a6, qX.rf, rfl, by omega, by omega⟩
      have e1 := x135 (I := I) (L := L) X hk
      rw [d2.1] at e1
      rw [← a1]
      simp (disch := omega) only [fX0_image, nL, nI_add, nJ_mul, nJ_div, nJ_mod, nI_leI, nI_ltI, nI_eq, Option.bind_some, Option.bind_none, Nat.one_ne_zero, Nat.zero_ne_one, Nat.zero_add, Nat.add_zero, if_true, if_false, not_true_eq_false, not_false_eq_true, x1, c, gx29 X, e1, nq_z (show 64 ≤ z by have := d2.2.1; omega)]
end JV3
