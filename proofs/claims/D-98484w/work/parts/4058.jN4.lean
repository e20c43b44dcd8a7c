/-! P2 JN4: both answer: plan -/
def gP (A : ld_t) (v n : Nat) : plb_t := fo_ (fun p z => if lA A 2 p = v ∧ lA A 6 p = 0 then (z.1 + 1, upN z.2 z.1 p) else z) (0, fun _ => 0) n
theorem gP_1 {A : ld_t} {v n : Nat} (h : lA A 2 n = v ∧ lA A 6 n = 0) : gP A v (n + 1) = ((gP A v n).1 + 1, upN (gP A v n).2 (gP A v n).1 n) := if_pos h
theorem gP_0 {A : ld_t} {v n : Nat} (h : ¬ (lA A 2 n = v ∧ lA A 6 n = 0)) : gP A v (n + 1) = gP A v n := if_neg h
theorem gP_le {A : ld_t} {v : Nat} : ∀ n, (gP A v n).1 ≤ n
  | 0 => Nat.le_refl _
  | n + 1 => by
    have ih := gP_le (A := A) (v := v) n
    by_cases c : lA A 2 n = v ∧ lA A 6 n = 0
    · rw [gP_1 c]
      dsimp only
      omega
    · rw [gP_0 c]
      omega
theorem gP_mo {A : ld_t} {v m : Nat} : ∀ n, m ≤ n → (gP A v m).1 ≤ (gP A v n).1
  | 0, h => by
    have : m = 0 := by omega
    rw [this]
    exact Nat.le_refl _
  | n + 1, h => by
    by_cases c0 : m = n + 1
    · rw [c0]
      exact Nat.le_refl _
    · have ih := gP_mo (A := A) (v := v) (m := m) n (by omega)
      by_cases c : lA A 2 n = v ∧ lA A 6 n = 0
      · rw [gP_1 c]
        dsimp only
        omega
      · rw [gP_0 c]
        exact ih
theorem gP_lt {A : ld_t} {v : Nat} : ∀ n k, k < (gP A v n).1 → (gP A v n).2 k < n
  | 0, k, h => absurd h (Nat.not_lt_zero k)
  | n + 1, k, h => by
    have ih := gP_lt (A := A) (v := v) n k
    by_cases c : lA A 2 n = v ∧ lA A 6 n = 0
    · rw [gP_1 c] at h ⊢
      dsimp only at h ⊢
      unfold upN
      split
      · omega
      · have := ih (by omega)
        omega
    · rw [gP_0 c] at h ⊢
      have := ih h
      omega
theorem pl_bd {A : ld_t} {T : Nat → Nat → Bool} {sM : Nat} {gs : Nat → Nat} {gm : Nat} : ∀ (d e : Nat) (P : Nat → Nat) (H : Nat → Bool) (b : plb_t), (∀ k, k < e → P k < 8 * gm) → (∀ k, k < b.1 → b.2 k < 8 * gm) → ∀ k, k < (pl A T sM gs gm d e P H b).1 → (pl A T sM gs gm d e P H b).2 k < 8 * gm
  | 0, _, _, _, _, _, hb => hb
  | d + 1, e, P, H, b, hP, hb => by
    show ∀ k, k < (fo_ (fun i b => fo_ (fun s b => plS A T sM gs (pl A T sM gs gm d) e P H i s b) b 8) b gm).1 → (fo_ (fun i b => fo_ (fun s b => plS A T sM gs (pl A T sM gs gm d) e P H i s b) b 8) b gm).2 k < 8 * gm
    refine fo_ind (P := fun (x : plb_t) => ∀ k, k < x.1 → x.2 k < 8 * gm) hb gm (fun i x hi hx => ?_)
    refine fo_ind (P := fun (x : plb_t) => ∀ k, k < x.1 → x.2 k < 8 * gm) hx 8 (fun s y hs hy => ?_)
    by_cases c : s < sM ∧ usd P e i = false ∧ a_gets (lHs A 6 H) T (gs i) s = true
    · rw [plS_1 c]
      have hP' : ∀ k, k < e + 1 → upN P e (8 * i + s) k < 8 * gm := fun k hk => by
        unfold upN
        split
        · omega
        · exact hP k (by omega)
      refine pl_bd d (e + 1) _ _ _ hP' ?_
      unfold plU
      split
      · exact hP'
      · exact hy
    · rw [plS_0 c]
      exact hy
def plF (A : ld_t) (T : Nat → Nat → Bool) (sM v : Nat) : plb_t := pl A T sM (gP A v (lA A 1 2)).2 (gP A v (lA A 1 2)).1 (gP A v (lA A 1 2)).1 0 (fun _ => 0) (lH A 6) (0, fun _ => 0)
def plR (A : ld_t) (T : Nat → Nat → Bool) (sM v w : Nat) : Int32 := if w = 0 then nI (plF A T sM v).1 else if 2 * (plF A T sM v).1 < w then -(nI 2) else if w % 2 = 1 then nI ((gP A v (lA A 1 2)).2 ((plF A T sM v).2 ((w - 1) / 2) / 8)) else nI ((plF A T sM v).2 ((w - 1) / 2) % 8)
theorem nJ_neg1 : (nI 0 + -(nI 1) < nI 0) = True := by decide
section JN4
variable {q : ph_t} {I : iF} {L : lF_} {A : ld_t} {T : Nat → Nat → Bool} {sM : Nat}
theorem kE_laysThere (K : mK q I A T sM) {v : Nat} (hv : v ≤ 1) : ∃ I', fX3_laysThere 136 (nI v) (hw q I L) = some ((), hw q I' L) ∧ (∀ a, a ≠ 136 → a ≠ 182 → I' a = I a) ∧ (∀ j, j ≠ 67 → I' 136 j = I 136 j) ∧ I' 136 67 = nI (gP A v (lA A 1 2)).1 ∧ ∀ k, k < (gP A v (lA A 1 2)).1 → I' 182 k = nI ((gP A v (lA A 1 2)).2 k) := by
  obtain ⟨M, R, hT, hsM, W, h24⟩ := id K
  have w2 := W.1.2.2.1
  have : ∃ t, fX3_laysThere 136 (nI v) (hw q I L) = some t ∧ ∃ I', t = ((), hw q I' L) ∧ (∀ a, a ≠ 136 → a ≠ 182 → I' a = I a) ∧ (∀ j, j ≠ 67 → I' 136 j = I 136 j) ∧ I' 136 67 = nI (gP A v (lA A 1 2)).1 ∧ ∀ k, k < (gP A v (lA A 1 2)).1 → I' 182 k = nI ((gP A v (lA A 1 2)).2 k) := by
    have e0 : fX3_laysThere 136 (nI v) (hw q I L) = fX3_laysThere_L7 136 (nI v) (nI 0) (hw q (ph_u I 136 67 (nI 0)) L) := by
      simp (disch := omega) only [fX3_laysThere, nL, nI_add, nJ_mul, nJ_div, nJ_mod, nI_leI, nI_ltI, nI_eq, Option.bind_some, Option.bind_none, Nat.one_ne_zero, Nat.zero_ne_one, Nat.zero_add, Nat.add_zero, if_true, if_false, not_true_eq_false, not_false_eq_true, sm_I M]
    rw [e0]
    unfold fX3_laysThere_L7
    refine whl_st (α := iF) (fun k U => (nI k, hw q U L)) (fun p U => (∀ a, a ≠ 136 → a ≠ 182 → U a = I a) ∧ (∀ j, j ≠ 67 → U 136 j = I 136 j) ∧ U 136 67 = nI (gP A v p).1 ∧ ∀ k, k < (gP A v p).1 → U 182 k = nI ((gP A v p).2 k)) (lA A 1 2) (a := ph_u I 136 67 (nI 0)) rfl ⟨fun a h1 _ => by rw [pu_ne h1], fun j hj => by rw [pu_nk hj], by rw [pu_eq]; rfl, fun k hk => absurd hk (Nat.not_lt_zero k)⟩ ?_ ?_
    · rintro p U hp ⟨f1, f2, f3, f4⟩
      have gle := gP_le (A := A) (v := v) p
      have r2 : U 137 2 = nI (lA A 1 2) := by rw [f1 137 (by decide) (by decide)]; exact rm1 R (by decide)
      have w := W.2.1 p hp
      have e2 : U 138 p = nI (lA A 2 p) := by rw [f1 138 (by decide) (by decide)]; exact rm2 R hp
      have e6 : U 142 p = nI (lA A 6 p) := by rw [f1 142 (by decide) (by decide)]; exact rm6 R hp
      by_cases c1 : lA A 2 p = v
      · by_cases c2 : lA A 6 p = 0
        · rw [gP_1 ⟨c1, c2⟩]
          refine ⟨ph_u (ph_u U 182 (gP A v p).1 (nI p)) 136 67 (nI ((gP A v p).1 + 1)), ?_, fun a h1 h2 => by rw [pu_ne h1, pu_ne h2]; exact f1 a h1 h2, fun j hj => by rw [pu_nk hj, pu_ne (by decide)]; exact f2 j hj, by rw [pu_eq], fun k hk => ?_⟩
          · simp (disch := omega) only [fX3_laysThere_L7_b, fX3_laysThere_L56, nL, nI_add, nJ_mul, nJ_div, nJ_mod, nI_leI, nI_ltI, nI_eq, Option.bind_some, Option.bind_none, Nat.one_ne_zero, Nat.zero_ne_one, Nat.zero_add, Nat.add_zero, if_true, if_false, not_true_eq_false, not_false_eq_true, gm1 M, xm137 M, r2, show ¬ lA A 1 2 ≤ p by omega, gm2 M, xm138 M, e2, c1, gm6 M, xm142 M, e6, c2, gm63 M, gm_I M, f3, ym182 M, pu_ne, sm_I M]
          · dsimp only at hk ⊢
            rw [pu_ne (by decide), pu_at]
            unfold upN
            by_cases c : k = (gP A v p).1
            · rw [if_pos c, if_pos c]
            · rw [if_neg c, if_neg c]
              exact f4 k (by omega)
        · rw [gP_0 (fun z => c2 z.2)]
          exact ⟨U, by simp (disch := omega) only [fX3_laysThere_L7_b, fX3_laysThere_L56, nL, nI_add, nJ_mul, nJ_div, nJ_mod, nI_leI, nI_ltI, nI_eq, Option.bind_some, Option.bind_none, Nat.one_ne_zero, Nat.zero_ne_one, Nat.zero_add, Nat.add_zero, if_true, if_false, not_true_eq_false, not_false_eq_true, gm1 M, xm137 M, r2, show ¬ lA A 1 2 ≤ p by omega, gm2 M, xm138 M, e2, c1, gm6 M, xm142 M, e6, c2], f1, f2, f3, f4⟩
      · rw [gP_0 (fun z => c1 z.1)]
        exact ⟨U, by simp (disch := omega) only [fX3_laysThere_L7_b, fX3_laysThere_L56, nL, nI_add, nJ_mul, nJ_div, nJ_mod, nI_leI, nI_ltI, nI_eq, Option.bind_some, Option.bind_none, Nat.one_ne_zero, Nat.zero_ne_one, Nat.zero_add, Nat.add_zero, if_true, if_false, not_true_eq_false, not_false_eq_true, gm1 M, xm137 M, r2, show ¬ lA A 1 2 ≤ p by omega, gm2 M, xm138 M, e2, c1], f1, f2, f3, f4⟩
    · rintro U ⟨f1, f2, f3, f4⟩
      have r2 : U 137 2 = nI (lA A 1 2) := by rw [f1 137 (by decide) (by decide)]; exact rm1 R (by decide)
      exact ⟨_, by simp (disch := omega) only [fX3_laysThere_L7_b, nL, nI_add, nJ_mul, nJ_div, nJ_mod, nI_leI, nI_ltI, nI_eq, Option.bind_some, Option.bind_none, Nat.one_ne_zero, Nat.zero_ne_one, Nat.zero_add, Nat.add_zero, if_true, if_false, not_true_eq_false, not_false_eq_true, gm1 M, xm137 M, r2, Nat.le_refl, xr_s] <;> rfl, U, rfl, f1, f2, f3, f4⟩
  obtain ⟨t, a1, I', rfl, a2⟩ := this
  exact ⟨I', a1, a2⟩
theorem kE_findsPlan (K : mK q I A T sM) {gs : Nat → Nat} {gm : Nat} (hg : gm ≤ 4) (hgs : ∀ k, k < gm → gs k < lA A 1 2) (h67 : I 136 67 = nI gm) (h182 : ∀ k, k < gm → I 182 k = nI (gs k)) : ∃ I', fX3_findsPlan 136 (hw q I L) = some ((), hw q I' L) ∧ frT I I' ∧ mK q I' A T sM ∧ (∀ k, k < gm → I' 182 k = nI (gs k)) ∧ I' 136 68 = nI (pl A T sM gs gm gm 0 (fun _ => 0) (lH A 6) (0, fun _ => 0)).1 ∧ (∀ k, k < (pl A T sM gs gm gm 0 (fun _ => 0) (lH A 6) (0, fun _ => 0)).1 → I' 184 k = nI ((pl A T sM gs gm gm 0 (fun _ => 0) (lH A 6) (0, fun _ => 0)).2 k)) ∧ (pl A T sM gs gm gm 0 (fun _ => 0) (lH A 6) (0, fun _ => 0)).1 ≤ gm := by
  obtain ⟨M, R, hT, hsM, W, h24⟩ := id K
  have K1 := K.keep (I' := ph_u (ph_u I 136 68 (nI 0)) 183 0 (-(nI 1))) (fun c hc => by rw [pu_ne (by omega), pu_ne (by omega)]) (by rw [pu_ne (by decide), pu_nk (by decide)]) (by rw [pu_ne (by decide), pu_nk (by decide)])
  obtain ⟨I2, a1, a2, a3, a4⟩ := kE_bto0 (I := ph_u (ph_u I 136 68 (nI 0)) 183 0 (-(nI 1))) (L := L) M (e := 0) (by decide)
  have K2 := K1.keep (I' := I2) (fun c hc => a2 c (by omega)) (by rw [a2 136 (by decide)]) (by rw [a2 136 (by decide)])
  have hH : ∀ w, lH A 6 w = true → w < 2 ^ lA A 1 0 := fun w h => W.2.2.2.2.2 6 w (Or.inr rfl) h
  have hrow : rI_ (I2 185) (8 * 0) (lH A 6) := fun w hw_ => by
    rw [a4 _ (by omega)]
    exact K1.2.1.2.1 6 (Or.inr rfl) w hw_
  obtain ⟨I3, b1, b2, b3⟩ := kE_pl (L := L) W hgs hg gm 0 (fun _ => 0) (lH A 6) (0, fun _ => 0) I2 (by omega) ⟨⟨lH A 6, by rw [lHs_s]; exact K2⟩, by rw [a2 136 (by decide), pu_ne (by decide), pu_nk (by decide)]; exact h67, fun k hk => by rw [a2 182 (by decide), pu_ne (by decide), pu_ne (by decide)]; exact h182 k hk, by rw [a2 136 (by decide), pu_ne (by decide), pu_eq], fun k hk => absurd hk (Nat.not_lt_zero k), Nat.zero_le _⟩ (fun k hk => absurd hk (Nat.not_lt_zero k)) hrow hH (by
    rw [a2 183 (by decide), pu_eq, Int32.add_left_neg]
    by_cases c : 0 = gm
    · rw [if_pos c, ← c]; rfl
    · rw [if_neg c]; rfl)
  generalize pl A T sM gs gm gm 0 (fun _ => 0) (lH A 6) (0, fun _ => 0) = b at b3
  obtain ⟨⟨Y, K3⟩, y67, y182, y68, y184, yb⟩ := b3
  obtain ⟨I4, d1, d2, d3⟩ := kE_bto1 (I := I3) (L := L) M (e := 0) (by decide)
  have K4 : mK q I4 A T sM := by
    have := K3.next d2.fr (mlR_held (B := lH A 6) K3.2.1 d2 (fun w hw_ => by
      have := hrow w hw_
      rw [d3 _ (by omega), b2.2.2.2 _ (by omega)]
      exact this)) (lW_held K3.2.2.2.2.1 fun _ w hb => hH w hb)
    rwa [lHs_2, lHs_s] at this
  refine ⟨I4, ?_, ⟨fun a ha => ?_, fun j hj => ?_, fun j hj => ?_⟩, K4, fun k hk => by rw [d2.1 182 (by decide)]; exact y182 k hk, by rw [d2.1 136 (by decide)]; exact y68, fun k hk => by rw [d2.1 184 (by decide)]; exact y184 k hk, yb⟩
  · have e20 : fX3_findsPlan_L20 136 (nI 0) (hw q I2 L) = some ((), hw q I4 L) := by
      rw [b1]
      unfold fX3_findsPlan_L20
      refine whl_end ?_
      dsimp only
      unfold fX3_findsPlan_L20_b
      rw [nL 0, if_pos (of_eq_true nJ_neg1)]
      simp (disch := omega) only [nL, nI_add, nJ_mul, nJ_div, nJ_mod, nI_leI, nI_ltI, nI_eq, Option.bind_some, Option.bind_none, Nat.one_ne_zero, Nat.zero_ne_one, Nat.zero_add, Nat.add_zero, if_true, if_false, not_true_eq_false, not_false_eq_true, dm M, d1, xr_s]
    simp (disch := omega) only [fX3_findsPlan, nL, nI_add, nJ_mul, nJ_div, nJ_mod, nI_leI, nI_ltI, nI_eq, Option.bind_some, Option.bind_none, Nat.one_ne_zero, Nat.zero_ne_one, Nat.zero_add, Nat.add_zero, if_true, if_false, not_true_eq_false, not_false_eq_true, sm_I M, gm64 M, ym183 M, dm M, a1, e20]
  · rw [d2.1 a (by omega), b2.1 a (by omega) (by omega) (by omega) (by omega) (by omega), a2 a (by omega), pu_ne (by omega), pu_ne (by omega)]
  · rw [d2.1 188 (by decide), b2.1 188 (by decide) (by decide) (by decide) (by decide) (by decide), a2 188 (by decide), pu_ne (by decide), pu_ne (by decide)]
  · rw [d2.1 136 (by decide), b2.2.1 j (by omega), a2 136 (by decide), pu_ne (by decide), pu_nk (by omega)]
end JN4
