/-! P2 JN2: the model's search, its steps -/
theorem whl_1 {S T : Type} {f : S → Option (S ⊕ T)} {s s' : S} (h : f s = some (.inl s')) : whl f s = whl f s' := by
  rw [whl_eq, h]
  rfl
section JN2
variable {q : ph_t} {I : iF} {L : lF_} {A : ld_t} {T : Nat → Nat → Bool} {sM : Nat} {gs : Nat → Nat} {gm : Nat}
theorem kE_pl140 (M : MS q) {e : Nat} (h67 : I 136 67 = nI gm) (he : e < gm) (hg : gm ≤ 4) : ∃ I', fX3_findsPlan_L140 136 (nI e) (hw q I L) = some (.inl (nI (e + 1), hw q I' L)) ∧ (∀ a, a ≠ 183 → a ≠ 185 → I' a = I a) ∧ (∀ k, k ≠ e + 1 → I' 183 k = I 183 k) ∧ I' 183 (e + 1) + nI 1 = nI (if e + 1 = gm then 8 * gm else 0) ∧ (∀ j, j < 8 * e + 8 → I' 185 j = I 185 j) ∧ ∀ k, k < 8 → I' 185 (8 * (e + 1) + k) = I 151 (48 + k) := by
  by_cases c : e + 1 = gm
  · obtain ⟨I', a1, a2, a3, a4⟩ := kE_bto0 (I := ph_u I 183 (e + 1) (nI (8 * gm) - nI 1)) (L := L) M (e := e + 1) (by omega)
    refine ⟨I', ?_, fun a h1 h2 => by rw [a2 a h2, pu_ne h1], fun k hk => by rw [a2 183 (by decide), pu_nk hk], ?_, fun j hj => by rw [a3 j (by omega), pu_ne (by decide)], fun k hk => by rw [a4 k hk, pu_ne (by decide)]⟩
    · simp (disch := omega) only [fX3_findsPlan_L140, fX3_findsPlan_L169, fX3_findsPlan_L176, nL, nI_add, nJ_mul, nJ_div, nJ_mod, nI_leI, nI_ltI, nI_eq, Option.bind_some, Option.bind_none, Nat.one_ne_zero, Nat.zero_ne_one, Nat.zero_add, Nat.add_zero, if_true, if_false, not_true_eq_false, not_false_eq_true, gm64 M, gm_I M, h67, show gm ≤ e + 1 by omega, ym183 M, dm M, a1]
    · rw [a2 183 (by decide), pu_eq, if_pos c, Int32.sub_add_cancel]
  · obtain ⟨I', a1, a2, a3, a4⟩ := kE_bto0 (I := ph_u I 183 (e + 1) (-(nI 1))) (L := L) M (e := e + 1) (by omega)
    refine ⟨I', ?_, fun a h1 h2 => by rw [a2 a h2, pu_ne h1], fun k hk => by rw [a2 183 (by decide), pu_nk hk], ?_, fun j hj => by rw [a3 j (by omega), pu_ne (by decide)], fun k hk => by rw [a4 k hk, pu_ne (by decide)]⟩
    · simp (disch := omega) only [fX3_findsPlan_L140, fX3_findsPlan_L169, fX3_findsPlan_L176, nL, nI_add, nJ_mul, nJ_div, nJ_mod, nI_leI, nI_ltI, nI_eq, Option.bind_some, Option.bind_none, Nat.one_ne_zero, Nat.zero_ne_one, Nat.zero_add, Nat.add_zero, if_true, if_false, not_true_eq_false, not_false_eq_true, gm64 M, gm_I M, h67, show ¬ gm ≤ e + 1 by omega, ym183 M, dm M, a1]
    · rw [a2 183 (by decide), pu_eq, if_neg c, Int32.add_left_neg]
      rfl
theorem kE_plH {b : plb_t} (Y : mPl q I A T sM gs gm b) (W : lW A) {e t : Nat} {H : Nat → Bool} (he : e ≤ gm) (hg : gm ≤ 4) (h5 : rI_ (I 185) (8 * e) H) (hH : ∀ w, H w = true → w < 2 ^ lA A 1 0) : ∃ I1, fX3_bridgeTo 136 (nI e) (nI 1) (hw q (ph_u I 183 e (nI t)) L) = some ((), hw q I1 L) ∧ mK q I1 (lHs A 6 H) T sM ∧ I1 183 e = nI t ∧ mPf I I1 e ∧ mPl q I1 A T sM gs gm b := by
  obtain ⟨⟨X, K⟩, h67, h182, h68, h184, hb⟩ := Y
  have K1 := K.keep (I' := ph_u I 183 e (nI t)) (fun c hc => by rw [pu_ne (by omega)]) (by rw [pu_ne (by decide)]) (by rw [pu_ne (by decide)])
  obtain ⟨I1, a1, a2, a3⟩ := kE_bto1 (I := ph_u I 183 e (nI t)) (L := L) K.1 (e := e) (by omega)
  have K2 : mK q I1 (lHs A 6 H) T sM := by
    have := K1.next a2.fr (mlR_held (B := H) K1.2.1 a2 (fun w hw_ => by
      have := h5 w hw_
      rw [a3 _ (by omega), pu_ne (by decide)]
      exact this)) (lW_held K1.2.2.2.2.1 fun _ w hb => hH w hb)
    rwa [lHs_2] at this
  have f : mPf I I1 e := ⟨fun a h1 h2 h3 h4 h5 => by rw [a2.1 a h2, pu_ne h3], fun j hj => by rw [a2.1 136 (by decide), pu_ne (by decide)], fun k hk => by rw [a2.1 183 (by decide), pu_nk (by omega)], fun j hj => by rw [a2.1 185 (by decide), pu_ne (by decide)]⟩
  exact ⟨I1, a1, K2, by rw [a2.1 183 (by decide), pu_eq], f, ⟨H, K2⟩, by rw [f.2.1 67 (by decide)]; exact h67, fun k hk => by rw [f.1 182 (by decide) (by decide) (by decide) (by decide) (by decide)]; exact h182 k hk, by rw [a2.1 136 (by decide), pu_ne (by decide)]; exact h68, fun k hk => by rw [a2.1 184 (by decide), pu_ne (by decide)]; exact h184 k hk, hb⟩
/-- one level's end: one level up -/
theorem kE_plE {b : plb_t} (Y : mPl q I A T sM gs gm b) (W : lW A) {e : Nat} {H : Nat → Bool} (he : e ≤ gm) (hg : gm ≤ 4) (h5 : rI_ (I 185) (8 * e) H) (hH : ∀ w, H w = true → w < 2 ^ lA A 1 0) (ht : I 183 e + nI 1 = nI (8 * gm)) : ∃ I1, fX3_findsPlan_L20 136 (nI e) (hw q I L) = fX3_findsPlan_L20 136 (nI e + -(nI 1)) (hw q I1 L) ∧ mPf I I1 e ∧ mPl q I1 A T sM gs gm b := by
  obtain ⟨I1, a1, a2, a3, a4, a5⟩ := kE_plH (L := L) Y W (t := 8 * gm) he hg h5 hH
  refine ⟨I1, ?_, a4, a5⟩
  obtain ⟨⟨X, K⟩, h67, h182, h68, h184, hb⟩ := a5
  have M := K.1
  unfold fX3_findsPlan_L20
  refine whl_1 ?_
  have e8 : 8 * gm / 8 = gm := by omega
  simp (config := { maxSteps := 4000000 }) (disch := omega) only [fX3_findsPlan_L20_b, fX3_findsPlan_L176, nm_, nL, nI_add, nJ_mul, nJ_div, nJ_mod, nI_leI, nI_ltI, nI_eq, Option.bind_some, Option.bind_none, Nat.one_ne_zero, Nat.zero_ne_one, Nat.zero_add, Nat.add_zero, if_true, if_false, not_true_eq_false, not_false_eq_true, show ¬ e < 0 by omega, gm64 M, xm183 M, ht, ym183 M, dm M, a1, a3, e8, gm_I M, h67, Nat.lt_irrefl]
theorem kE_plT {b : plb_t} (Y : mPl q I A T sM gs gm b) (W : lW A) (hgs : ∀ k, k < gm → gs k < lA A 1 2) {d e i s : Nat} {P : Nat → Nat} {H : Nat → Bool} (he : e + (d + 1) = gm) (hg : gm ≤ 4) (hi : i < gm) (hs : s < 8) (hP : ∀ k, k < e → I 183 k = nI (P k) ∧ P k < 48) (h5 : rI_ (I 185) (8 * e) H) (hH : ∀ w, H w = true → w < 2 ^ lA A 1 0) (ht : I 183 e + nI 1 = nI (8 * i + s)) (rec_ : Nat → (Nat → Nat) → (Nat → Bool) → plb_t → plb_t)
    (ih : ∀ (P : Nat → Nat) (H : Nat → Bool) (b : plb_t) (I : iF), mPl q I A T sM gs gm b → (∀ k, k < e + 1 → I 183 k = nI (P k) ∧ P k < 48) → rI_ (I 185) (8 * (e + 1)) H → (∀ w, H w = true → w < 2 ^ lA A 1 0) → I 183 (e + 1) + nI 1 = nI (if e + 1 = gm then 8 * gm else 0) → ∃ I', fX3_findsPlan_L20 136 (nI (e + 1)) (hw q I L) = fX3_findsPlan_L20 136 (nI (e + 1) + -(nI 1)) (hw q I' L) ∧ mPf I I' (e + 1) ∧ mPl q I' A T sM gs gm (rec_ (e + 1) P H b)) :
    ∃ I', fX3_findsPlan_L20 136 (nI e) (hw q I L) = fX3_findsPlan_L20 136 (nI e) (hw q I' L) ∧ mPf I I' e ∧ I' 183 e = nI (8 * i + s) ∧ mPl q I' A T sM gs gm (plS A T sM gs rec_ e P H i s b) := by
  obtain ⟨I1, a1, a2, a3, a4, a5⟩ := kE_plH (L := L) Y W (t := 8 * i + s) (by omega) hg h5 hH
  have e8 : (8 * i + s) / 8 = i := by omega
  have e9 : (8 * i + s) % 8 = s := by omega
  have a50 := a5
  obtain ⟨⟨X, K⟩, h67, h182, h68, h184, hb⟩ := a5
  obtain ⟨M, R, hT, hsM, -, h24⟩ := id a2
  have hP1 : ∀ k, k < e → I1 183 k = nI (P k) ∧ P k < 48 := fun k hk => by
    rw [a4.2.2.1 k hk]
    exact hP k hk
  have hg182 := h182 i hi
  have hgi := hgs i hi
  have w2 := W.1.2.2.1
  have eU := kE_isUsed (I := I1) (L := L) M (i := i) (by omega) (by omega) hP1
  by_cases c1 : s < sM
  · cases c2 : usd P e i
    · have eG := kE_getsOver (L := L) a2 (p := gs i) (s := s) (by rw [lHs_A]; exact hgi) c1
      cases c3 : a_gets (lHs A 6 H) T (gs i) s
      · rw [plS_0 (by rw [c3]; simp)]
        refine ⟨I1, ?_, a4, a3, a50⟩
        unfold fX3_findsPlan_L20
        refine whl_1 ?_
        simp (config := { maxSteps := 4000000 }) (disch := omega) only [fX3_findsPlan_L20_b, fX3_findsPlan_L176, nm_, nL, nI_add, nJ_mul, nJ_div, nJ_mod, nI_leI, nI_ltI, nI_eq, Option.bind_some, Option.bind_none, Nat.one_ne_zero, Nat.zero_ne_one, Nat.zero_add, Nat.add_zero, if_true, if_false, not_true_eq_false, not_false_eq_true, show ¬ e < 0 by omega, gm64 M, xm183 M, ht, ym183 M, dm M, a1, a3, e8, e9, gm_I M, h67, hi, hsM, show ¬ sM ≤ s by omega, eU, c2, gm63 M, xm182 M, hg182, eG, c3, Bool.false_eq_true]
      · rw [plS_1 ⟨c1, c2, c3⟩]
        obtain ⟨I2, b1, b2, b3⟩ := mE_isTold (L := L) M R hT a2.2.2.2.2.1 (who := 6) (Or.inr rfl) c1 h24
        rw [lHs_2, lHs_6] at b3
        have hH' : ∀ w, (H w && T s w) = true → w < 2 ^ lA A 1 0 := fun w h => hH w (by simp only [Bool.and_eq_true] at h; exact h.1)
        have K2 : mK q I2 (lHs A 6 (fun w => H w && T s w)) T sM := a2.next b2.fr b3 (lW_held W fun _ w h => hH' w h)
        have hP' : ∀ k, k < e + 1 → I1 183 k = nI (upN P e (8 * i + s) k) ∧ upN P e (8 * i + s) k < 48 := fun k hk => by
          unfold upN
          by_cases c : k = e
          · subst c
            rw [if_pos rfl]
            exact ⟨a3, by omega⟩
          · rw [if_neg c]
            exact hP1 k (by omega)
        -- the best so far
        have : ∃ I3, (∀ r, fX3_findsPlan_L140 136 (nI e) (hw q I3 L) = some (.inl r) → fX3_findsPlan_L20_b 136 (nI e) (hw q I L) = some (.inl r)) ∧ (∀ a, a ≠ 136 → a ≠ 184 → I3 a = I2 a) ∧ (∀ j, j ≠ 68 → I3 136 j = I2 136 j) ∧ I3 136 68 = nI (plU (e + 1) (upN P e (8 * i + s)) b).1 ∧ (∀ k, k < (plU (e + 1) (upN P e (8 * i + s)) b).1 → I3 184 k = nI ((plU (e + 1) (upN P e (8 * i + s)) b).2 k)) ∧ (plU (e + 1) (upN P e (8 * i + s)) b).1 ≤ gm := by
          have h68' : I2 136 68 = nI b.1 := by rw [b2.1 136 (by decide)]; exact h68
          unfold plU
          by_cases c : b.1 < e + 1
          · rw [if_pos c]
            obtain ⟨I3, d1, d2, d3⟩ := kE_cpT (I := ph_u I2 136 68 (nI (e + 1))) (L := L) M
            refine ⟨I3, fun r hr => ?_, fun a h1 h2 => by rw [d2 a h2, pu_ne h1], fun j hj => by rw [d2 136 (by decide), pu_nk hj], by rw [d2 136 (by decide), pu_eq], fun k hk => ?_, by dsimp only; omega⟩
            · simp (config := { maxSteps := 4000000 }) (disch := omega) only [fX3_findsPlan_L20_b, fX3_findsPlan_L176, nm_, nL, nI_add, nJ_mul, nJ_div, nJ_mod, nI_leI, nI_ltI, nI_eq, Option.bind_some, Option.bind_none, Nat.one_ne_zero, Nat.zero_ne_one, Nat.zero_add, Nat.add_zero, if_true, if_false, not_true_eq_false, not_false_eq_true, show ¬ e < 0 by omega, gm64 M, xm183 M, ht, ym183 M, dm M, a1, a3, e8, e9, gm_I M, h67, hi, hsM, show ¬ sM ≤ s by omega, eU, c2, gm63 M, xm182 M, hg182, eG, c3, b1, h68', show ¬ e + 1 ≤ b.1 by omega, sm_I M, gm65 M, d1, hr, Bool.false_eq_true]
            · dsimp only at hk ⊢
              rw [d3 k (by omega), pu_ne (by decide), b2.1 183 (by decide)]
              exact (hP' k hk).1
          · rw [if_neg c]
            refine ⟨I2, fun r hr => ?_, fun a _ _ => rfl, fun j _ => rfl, h68', fun k hk => by rw [b2.1 184 (by decide)]; exact h184 k hk, hb⟩
            simp (config := { maxSteps := 4000000 }) (disch := omega) only [fX3_findsPlan_L20_b, fX3_findsPlan_L176, nm_, nL, nI_add, nJ_mul, nJ_div, nJ_mod, nI_leI, nI_ltI, nI_eq, Option.bind_some, Option.bind_none, Nat.one_ne_zero, Nat.zero_ne_one, Nat.zero_add, Nat.add_zero, if_true, if_false, not_true_eq_false, not_false_eq_true, show ¬ e < 0 by omega, gm64 M, xm183 M, ht, ym183 M, dm M, a1, a3, e8, e9, gm_I M, h67, hi, hsM, show ¬ sM ≤ s by omega, eU, c2, gm63 M, xm182 M, hg182, eG, c3, b1, h68', show e + 1 ≤ b.1 by omega, hr, Bool.false_eq_true]
        obtain ⟨I3, d1, d2, d3, d4, d5, d6⟩ := this
        have h67' : I3 136 67 = nI gm := by rw [d3 67 (by decide), b2.1 136 (by decide)]; exact h67
        obtain ⟨I4, f1, f2, f3, f4, f5, f6⟩ := kE_pl140 (I := I3) (L := L) M (e := e) h67' (by omega) hg
        have K4 : mK q I4 (lHs A 6 (fun w => H w && T s w)) T sM := K2.keep (fun a ha => by rw [f2 a (by omega) (by omega), d2 a (by omega) (by omega)]) (by rw [f2 136 (by decide) (by decide), d3 59 (by decide)]) (by rw [f2 136 (by decide) (by decide), d3 32 (by decide)])
        obtain ⟨I5, g1, g2, g3⟩ := ih (upN P e (8 * i + s)) (fun w => H w && T s w) (plU (e + 1) (upN P e (8 * i + s)) b) I4 ⟨⟨_, K4⟩, by rw [f2 136 (by decide) (by decide)]; exact h67', fun k hk => by rw [f2 182 (by decide) (by decide), d2 182 (by decide) (by decide), b2.1 182 (by decide)]; exact h182 k hk, by rw [f2 136 (by decide) (by decide)]; exact d4, fun k hk => by rw [f2 184 (by decide) (by decide)]; exact d5 k hk, d6⟩
          (fun k hk => by rw [f3 k (by omega), d2 183 (by decide) (by decide), b2.1 183 (by decide)]; exact hP' k hk)
          (fun w hw_ => by
            rw [f6 _ (by omega), d2 151 (by decide) (by decide)]
            exact K2.2.1.2.1 6 (Or.inr rfl) w hw_) hH' f4
        rw [nI_un1] at g1
        have fr : mPf I1 I4 e := ⟨fun a h1 h2 h3 h4 h5 => by rw [f2 a h3 h5, d2 a h1 h4, b2.1 a h2], fun j hj => by rw [f2 136 (by decide) (by decide), d3 j hj, b2.1 136 (by decide)], fun k hk => by rw [f3 k (by omega), d2 183 (by decide) (by decide), b2.1 183 (by decide)], fun j hj => by rw [f5 j hj, d2 185 (by decide) (by decide), b2.1 185 (by decide)]⟩
        refine ⟨I5, ?_, (a4.tr fr).tr g2.lo, by rw [g2.2.2.1 e (by omega), f3 e (by omega), d2 183 (by decide) (by decide), b2.1 183 (by decide)]; exact a3, g3⟩
        refine Eq.trans ?_ g1
        unfold fX3_findsPlan_L20
        exact whl_1 (d1 _ f1)
    · rw [plS_0 (by rw [c2]; simp)]
      refine ⟨I1, ?_, a4, a3, a50⟩
      unfold fX3_findsPlan_L20
      refine whl_1 ?_
      simp (config := { maxSteps := 4000000 }) (disch := omega) only [fX3_findsPlan_L20_b, fX3_findsPlan_L176, nm_, nL, nI_add, nJ_mul, nJ_div, nJ_mod, nI_leI, nI_ltI, nI_eq, Option.bind_some, Option.bind_none, Nat.one_ne_zero, Nat.zero_ne_one, Nat.zero_add, Nat.add_zero, if_true, if_false, not_true_eq_false, not_false_eq_true, show ¬ e < 0 by omega, gm64 M, xm183 M, ht, ym183 M, dm M, a1, a3, e8, e9, gm_I M, h67, hi, hsM, show ¬ sM ≤ s by omega, eU, c2]
  · rw [plS_0 (fun z => c1 z.1)]
    refine ⟨I1, ?_, a4, a3, a50⟩
    unfold fX3_findsPlan_L20
    refine whl_1 ?_
    simp (config := { maxSteps := 4000000 }) (disch := omega) only [fX3_findsPlan_L20_b, fX3_findsPlan_L176, nm_, nL, nI_add, nJ_mul, nJ_div, nJ_mod, nI_leI, nI_ltI, nI_eq, Option.bind_some, Option.bind_none, Nat.one_ne_zero, Nat.zero_ne_one, Nat.zero_add, Nat.add_zero, if_true, if_false, not_true_eq_false, not_false_eq_true, show ¬ e < 0 by omega, gm64 M, xm183 M, ht, ym183 M, dm M, a1, a3, e8, e9, gm_I M, h67, hi, hsM, show sM ≤ s by omega]
theorem kE_pl (W : lW A) (hgs : ∀ k, k < gm → gs k < lA A 1 2) (hg : gm ≤ 4) : ∀ (d e : Nat) (P : Nat → Nat) (H : Nat → Bool) (b : plb_t) (I : iF), e + d = gm → mPl q I A T sM gs gm b → (∀ k, k < e → I 183 k = nI (P k) ∧ P k < 48) → rI_ (I 185) (8 * e) H → (∀ w, H w = true → w < 2 ^ lA A 1 0) → I 183 e + nI 1 = nI (if e = gm then 8 * gm else 0) → ∃ I', fX3_findsPlan_L20 136 (nI e) (hw q I L) = fX3_findsPlan_L20 136 (nI e + -(nI 1)) (hw q I' L) ∧ mPf I I' e ∧ mPl q I' A T sM gs gm (pl A T sM gs gm d e P H b)
  | 0, e, P, H, b, I, he, Y, hP, h5, hH, ht => by
    rw [if_pos (by omega)] at ht
    exact kE_plE Y W (by omega) hg h5 hH ht
  | d + 1, e, P, H, b, I, he, Y, hP, h5, hH, ht => by
    rw [if_neg (by omega)] at ht
    have ih := fun P H b I => kE_pl W hgs hg d (e + 1) P H b I (by omega)
    obtain ⟨I1, a1, a2, a3, a4⟩ := eq_ind (fun I => fX3_findsPlan_L20 136 (nI e) (hw q I L)) (fun i J => mPf I J e ∧ J 183 e + nI 1 = nI (8 * i) ∧ mPl q J A T sM gs gm (fo_ (fun i b => fo_ (fun s b => plS A T sM gs (pl A T sM gs gm d) e P H i s b) b 8) b i)) gm (fun i J hi hJ => by
      obtain ⟨c1, c2, c3⟩ := hJ
      obtain ⟨I2, b1, b2, b3, b4⟩ := eq_ind (fun I => fX3_findsPlan_L20 136 (nI e) (hw q I L)) (fun s U => mPf I U e ∧ U 183 e + nI 1 = nI (8 * i + s) ∧ mPl q U A T sM gs gm (fo_ (fun s b => plS A T sM gs (pl A T sM gs gm d) e P H i s b) (fo_ (fun i b => fo_ (fun s b => plS A T sM gs (pl A T sM gs gm d) e P H i s b) b 8) b i) s)) 8 (fun s U hs hU => by
        obtain ⟨f1, f2, f3⟩ := hU
        obtain ⟨U', g1, g2, g3, g4⟩ := kE_plT (L := L) f3 W hgs (d := d) (e := e) (i := i) (s := s) (P := P) (H := H) he hg hi hs (fun k hk => by rw [f1.2.2.1 k hk]; exact hP k hk) (fun w hw_ => by
          rw [f1.2.2.2 _ (by omega)]
          exact h5 w hw_) hH f2 (pl A T sM gs gm d) ih
        exact ⟨U', g1, f1.tr g2, by rw [g3, nI_add, Nat.add_assoc], g4⟩) J ⟨c1, c2, c3⟩
      exact ⟨I2, b1, b2, b3, b4⟩) I ⟨mPf.rf, ht, Y⟩
    obtain ⟨I3, g1, g2, g3⟩ := kE_plE (L := L) a4 W (e := e) (H := H) (by omega) hg (fun w hw_ => by
      rw [a2.2.2.2 _ (by omega)]
      exact h5 w hw_) hH a3
    exact ⟨I3, a1.trans g1, a2.tr g2, g3⟩
end JN2
