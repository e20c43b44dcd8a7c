/-! P2 JT: both hold the same bytes: feed, end -/
def by4 (v : Int32) (i : Nat) : Int32 := ib_ (ib_ (is_ v (nI (24 - 8 * i))))
def sh4 (i : Nat) : Int32 := if i = 4 then -(nI 8) else nI (24 - 8 * i)
theorem sh4_s : ∀ i, i < 4 → nI (24 - 8 * i) + -(nI 8) = sh4 (i + 1) := by decide
theorem sh4_l {i : Nat} (h : i < 4) : sh4 i = nI (24 - 8 * i) := if_neg (by omega)
theorem nJ_neg8 : (-(nI 8) < nI 0) = True := by decide
theorem ib_r (x : Int32) : -128 ≤ (ib_ x).toInt ∧ (ib_ x).toInt ≤ 127 := by
  unfold ib_
  rw [Int8.toInt_toInt32]
  have h1 := Int8.le_toInt x.toInt8
  have h2 := Int8.toInt_lt x.toInt8
  omega
/-- the same bytes, as many told -/
def jTp (I : iF) : Prop := ∃ n, n ≤ 400 ∧ I 64 10 = nI n ∧ I 136 27 = nI n ∧ ∀ j, j < 400 → I 123 j = I 163 j ∧ -128 ≤ (I 163 j).toInt ∧ (I 163 j).toInt ≤ 127
section JTT
variable {q : ph_t} {I : iF} {L : lF_} {A : ld_t} {T : Nat → Nat → Bool} {sM : Nat}
def tpW (I I' : iF) (o f a n : Nat) (v : Int32) : Prop := (∀ b, b ≠ o → b ≠ a → I' b = I b) ∧ (∀ j, j ≠ f → I' o j = I o j) ∧ I' o f = nI (n + 4) ∧ ∀ j, I' a j = if n ≤ j ∧ j < n + 4 then by4 v (j - n) else I a j
theorem bX_four (X : XS q) {n : Nat} (h : I 64 10 = nI n) (hn : n + 4 ≤ 400) (v : Int32) : ∃ I', fX0_four 64 v (hw q I L) = some ((), hw q I' L) ∧ tpW I I' 64 10 123 n v := by
  have : ∃ t, fX0_four 64 v (hw q I L) = some t ∧ ∃ I', t = ((), hw q I' L) ∧ tpW I I' 64 10 123 n v := by
    unfold fX0_four fX0_four_L3
    refine whl_st (α := iF) (fun i U => (sh4 i, hw q U L)) (fun i U => (∀ b, b ≠ 64 → b ≠ 123 → U b = I b) ∧ (∀ j, j ≠ 10 → U 64 j = I 64 j) ∧ U 64 10 = nI (n + i) ∧ ∀ j, U 123 j = if n ≤ j ∧ j < n + i then by4 v (j - n) else I 123 j) 4 (a := I) rfl ⟨fun _ _ _ => rfl, fun _ _ => rfl, h, fun j => by rw [if_neg (by omega)]⟩ ?_ ?_
    · rintro i U hi ⟨f1, f2, f3, f4⟩
      refine ⟨ph_u (ph_u U 123 (n + i) (by4 v i)) 64 10 (nI (n + (i + 1))), ?_, fun b h1 h2 => by rw [pu_ne h1, pu_ne h2]; exact f1 b h1 h2, fun j hj => by rw [pu_nk hj, pu_ne (by decide)]; exact f2 j hj, pu_eq, fun j => ?_⟩
      · have e := sh4_s i hi
        rw [sh4_l hi]
        simp (disch := omega) only [fX0_four_L3_b, nL, nI_add, nJ_mul, nJ_div, nJ_mod, nI_leI, nI_ltI, nI_eq, Option.bind_some, Option.bind_none, Nat.one_ne_zero, Nat.zero_ne_one, Nat.zero_add, Nat.add_zero, if_true, if_false, not_true_eq_false, not_false_eq_true, gx9 X, gx_I X, f3, yx123 X, pu_ne, sx_I X, e, by4, Nat.not_lt_zero, Nat.add_assoc]
      · rw [pu_ne (by decide), pu_at]
        by_cases c : j = n + i
        · subst c
          rw [if_pos rfl, if_pos (by omega), Nat.add_sub_cancel_left]
        · rw [if_neg c, f4 j]
          by_cases c2 : n ≤ j ∧ j < n + i
          · rw [if_pos c2, if_pos (by omega)]
          · rw [if_neg c2, if_neg (by omega)]
    · rintro U ⟨f1, f2, f3, f4⟩
      refine ⟨_, ?_, U, rfl, f1, f2, f3, f4⟩
      show fX0_four_L3_b 64 v (-(nI 8)) (hw q U L) = _
      unfold fX0_four_L3_b
      rw [nL 0, if_pos (of_eq_true nJ_neg8)]
      rfl
  obtain ⟨t, a1, I', rfl, a2⟩ := this
  exact ⟨I', a1, a2⟩
theorem kE_put (M : MS q) {n : Nat} (h : I 136 27 = nI n) (hn : n + 4 ≤ 400) (v : Int32) : ∃ I', fX3_put 136 v (hw q I L) = some ((), hw q I' L) ∧ tpW I I' 136 27 163 n v := by
  have : ∃ t, fX3_put 136 v (hw q I L) = some t ∧ ∃ I', t = ((), hw q I' L) ∧ tpW I I' 136 27 163 n v := by
    unfold fX3_put fX3_put_L3
    refine whl_st (α := iF) (fun i U => (sh4 i, hw q U L)) (fun i U => (∀ b, b ≠ 136 → b ≠ 163 → U b = I b) ∧ (∀ j, j ≠ 27 → U 136 j = I 136 j) ∧ U 136 27 = nI (n + i) ∧ ∀ j, U 163 j = if n ≤ j ∧ j < n + i then by4 v (j - n) else I 163 j) 4 (a := I) rfl ⟨fun _ _ _ => rfl, fun _ _ => rfl, h, fun j => by rw [if_neg (by omega)]⟩ ?_ ?_
    · rintro i U hi ⟨f1, f2, f3, f4⟩
      refine ⟨ph_u (ph_u U 163 (n + i) (by4 v i)) 136 27 (nI (n + (i + 1))), ?_, fun b h1 h2 => by rw [pu_ne h1, pu_ne h2]; exact f1 b h1 h2, fun j hj => by rw [pu_nk hj, pu_ne (by decide)]; exact f2 j hj, pu_eq, fun j => ?_⟩
      · have e := sh4_s i hi
        rw [sh4_l hi]
        simp (disch := omega) only [fX3_put_L3_b, nL, nI_add, nJ_mul, nJ_div, nJ_mod, nI_leI, nI_ltI, nI_eq, Option.bind_some, Option.bind_none, Nat.one_ne_zero, Nat.zero_ne_one, Nat.zero_add, Nat.add_zero, if_true, if_false, not_true_eq_false, not_false_eq_true, gm38 M, gm_I M, f3, ym163 M, pu_ne, sm_I M, e, by4, Nat.not_lt_zero, Nat.add_assoc]
      · rw [pu_ne (by decide), pu_at]
        by_cases c : j = n + i
        · subst c
          rw [if_pos rfl, if_pos (by omega), Nat.add_sub_cancel_left]
        · rw [if_neg c, f4 j]
          by_cases c2 : n ≤ j ∧ j < n + i
          · rw [if_pos c2, if_pos (by omega)]
          · rw [if_neg c2, if_neg (by omega)]
    · rintro U ⟨f1, f2, f3, f4⟩
      refine ⟨_, ?_, U, rfl, f1, f2, f3, f4⟩
      show fX3_put_L3_b 136 v (-(nI 8)) (hw q U L) = _
      unfold fX3_put_L3_b
      rw [nL 0, if_pos (of_eq_true nJ_neg8)]
      rfl
  obtain ⟨t, a1, I', rfl, a2⟩ := this
  exact ⟨I', a1, a2⟩
/-- what feed and end leave alone -/
def frF (I I' : iF) : Prop := (∀ a, a ≠ 64 → a ≠ 123 → a ≠ 136 → a ≠ 163 → I' a = I a) ∧ (∀ j, j ≠ 10 → I' 64 j = I 64 j) ∧ ∀ j, j ≠ 27 → I' 136 j = I 136 j
theorem jK.F {I' : iF} (J : jK q I L A T sM) (h : frF I I') : jK q I' L A T sM := by
  obtain ⟨K, B, V⟩ := J
  refine ⟨K.keep (fun a ha => h.1 a (by omega) (by omega) (by omega) (by omega)) (h.2.2 59 (by decide)) (h.2.2 32 (by decide)), ?_, V⟩
  obtain ⟨X, hT, hs, hx, W, h24, hl⟩ := B
  refine ⟨X, hT, by rw [h.2.1 1 (by decide)]; exact hs, by rw [h.2.1 7 (by decide)]; exact hx, W, h24, ?_⟩
  rcases hl with ⟨h1, h2, h3⟩ | ⟨h1, h2⟩
  · exact Or.inl ⟨h1, glR_keep W h2 (fun a a1 a2 => h.1 a (by omega) (by omega) (by omega) (by omega)) (fun _ _ _ => rfl), h3⟩
  · exact Or.inr ⟨h1, h2⟩
theorem tp_5 {I I1 I2 I3 I4 I5 : iF} {o f a n : Nat} {v1 v2 v3 v4 v5 : Int32} (ho : o ≠ a) (h1 : tpW I I1 o f a n v1) (h2 : tpW I1 I2 o f a (n + 4) v2) (h3 : tpW I2 I3 o f a (n + 8) v3) (h4 : tpW I3 I4 o f a (n + 12) v4) (h5 : tpW I4 I5 o f a (n + 16) v5) : (∀ b, b ≠ o → b ≠ a → I5 b = I b) ∧ (∀ j, j ≠ f → I5 o j = I o j) ∧ I5 o f = nI (n + 20) ∧ ∀ j, I5 a j = if n ≤ j ∧ j < n + 20 then by4 (if j < n + 4 then v1 else if j < n + 8 then v2 else if j < n + 12 then v3 else if j < n + 16 then v4 else v5) ((j - n) % 4) else I a j := by
  refine ⟨fun b b1 b2 => by rw [h5.1 b b1 b2, h4.1 b b1 b2, h3.1 b b1 b2, h2.1 b b1 b2, h1.1 b b1 b2], fun j hj => by rw [h5.2.1 j hj, h4.2.1 j hj, h3.2.1 j hj, h2.2.1 j hj, h1.2.1 j hj], h5.2.2.1, fun j => ?_⟩
  rw [h5.2.2.2 j, h4.2.2.2 j, h3.2.2.2 j, h2.2.2.2 j, h1.2.2.2 j]
  by_cases c5 : n + 16 ≤ j ∧ j < n + 16 + 4
  · rw [if_pos c5, if_pos (by omega), if_neg (by omega), if_neg (by omega), if_neg (by omega), if_neg (by omega)]
    congr 1
    omega
  · rw [if_neg c5]
    by_cases c4 : n + 12 ≤ j ∧ j < n + 12 + 4
    · rw [if_pos c4, if_pos (by omega), if_neg (by omega), if_neg (by omega), if_neg (by omega), if_pos (by omega)]
      congr 1
      omega
    · rw [if_neg c4]
      by_cases c3 : n + 8 ≤ j ∧ j < n + 8 + 4
      · rw [if_pos c3, if_pos (by omega), if_neg (by omega), if_neg (by omega), if_pos (by omega)]
        congr 1
        omega
      · rw [if_neg c3]
        by_cases c2 : n + 4 ≤ j ∧ j < n + 4 + 4
        · rw [if_pos c2, if_pos (by omega), if_neg (by omega), if_pos (by omega)]
          congr 1
          omega
        · rw [if_neg c2]
          by_cases c1 : n ≤ j ∧ j < n + 4
          · rw [if_pos c1, if_pos (by omega), if_pos (by omega)]
            congr 1
            omega
          · rw [if_neg c1, if_neg (by omega)]
theorem J_feed (J : jK q I L A T sM) (Y : jTp I) (v1 v2 v3 v4 v5 : Int32) : ∃ r I1 I2, fX0_feed 64 v1 v2 v3 v4 v5 (hw q I L) = some (r, hw q I1 L) ∧ fX3_feed 136 v1 v2 v3 v4 v5 (hw q I1 L) = some (r, hw q I2 L) ∧ frF I I2 ∧ jTp I2 := by
  obtain ⟨K, B, V⟩ := J
  have M := K.1
  have X := B.1
  obtain ⟨n, hn, h10, h27, ht⟩ := Y
  by_cases c : n + 20 ≤ 400
  · obtain ⟨I1, a1, b1⟩ := bX_four (L := L) X h10 (by omega) v1
    obtain ⟨I2, a2, b2⟩ := bX_four (L := L) X b1.2.2.1 (by omega) v2
    obtain ⟨I3, a3, b3⟩ := bX_four (L := L) X b2.2.2.1 (by omega) v3
    obtain ⟨I4, a4, b4⟩ := bX_four (L := L) X b3.2.2.1 (by omega) v4
    obtain ⟨I5, a5, b5⟩ := bX_four (L := L) X b4.2.2.1 (by omega) v5
    obtain ⟨d1, d2, d3, d4⟩ := tp_5 (by decide) b1 b2 b3 b4 b5
    have h27' : I5 136 27 = nI n := by rw [d1 136 (by decide) (by decide)]; exact h27
    obtain ⟨J1, e1, f1⟩ := kE_put (L := L) M h27' (by omega) v1
    obtain ⟨J2, e2, f2⟩ := kE_put (L := L) M f1.2.2.1 (by omega) v2
    obtain ⟨J3, e3, f3⟩ := kE_put (L := L) M f2.2.2.1 (by omega) v3
    obtain ⟨J4, e4, f4⟩ := kE_put (L := L) M f3.2.2.1 (by omega) v4
    obtain ⟨J5, e5, f5⟩ := kE_put (L := L) M f4.2.2.1 (by omega) v5
    obtain ⟨g1, g2, g3, g4⟩ := tp_5 (by decide) f1 f2 f3 f4 f5
    refine ⟨nI (n + 20), I5, J5, ?_, ?_, ⟨fun a h1 h2 h3 h4 => by rw [g1 a h3 h4, d1 a h1 h2], fun j hj => by rw [g1 64 (by decide) (by decide), d2 j hj], fun j hj => by rw [g2 j hj, d1 136 (by decide) (by decide)]⟩, n + 20, c, by rw [g1 64 (by decide) (by decide)]; exact d3, g3, fun j hj => ?_⟩
    · simp (disch := omega) only [fX0_feed, nL, nI_add, nJ_mul, nJ_div, nJ_mod, nI_leI, nI_ltI, nI_eq, Option.bind_some, Option.bind_none, Nat.one_ne_zero, Nat.zero_ne_one, Nat.zero_add, Nat.add_zero, if_true, if_false, not_true_eq_false, not_false_eq_true, gx_I X, h10, c, dx X, a1, a2, a3, a4, a5, d3]
    · simp (disch := omega) only [fX3_feed, nL, nI_add, nJ_mul, nJ_div, nJ_mod, nI_leI, nI_ltI, nI_eq, Option.bind_some, Option.bind_none, Nat.one_ne_zero, Nat.zero_ne_one, Nat.zero_add, Nat.add_zero, if_true, if_false, not_true_eq_false, not_false_eq_true, gm_I M, h27', c, dm M, e1, e2, e3, e4, e5, g3]
    · rw [g1 123 (by decide) (by decide), d4 j, g4 j, d1 163 (by decide) (by decide)]
      obtain ⟨t1, t2, t3⟩ := ht j hj
      by_cases c2 : n ≤ j ∧ j < n + 20
      · rw [if_pos c2, if_pos c2]
        exact ⟨rfl, ib_r _⟩
      · rw [if_neg c2, if_neg c2]
        exact ⟨t1, t2, t3⟩
  · exact ⟨-(nI 1), I, I, by simp (disch := omega) only [fX0_feed, nL, nI_add, nJ_mul, nJ_div, nJ_mod, nI_leI, nI_ltI, nI_eq, Option.bind_some, Option.bind_none, Nat.one_ne_zero, Nat.zero_ne_one, Nat.zero_add, Nat.add_zero, if_true, if_false, not_true_eq_false, not_false_eq_true, gx_I X, h10, c], by simp (disch := omega) only [fX3_feed, nL, nI_add, nJ_mul, nJ_div, nJ_mod, nI_leI, nI_ltI, nI_eq, Option.bind_some, Option.bind_none, Nat.one_ne_zero, Nat.zero_ne_one, Nat.zero_add, Nat.add_zero, if_true, if_false, not_true_eq_false, not_false_eq_true, gm_I M, h27, c], ⟨fun _ _ _ _ _ => rfl, fun _ _ => rfl, fun _ _ => rfl⟩, n, hn, h10, h27, ht⟩
theorem J_end (J : jK q I L A T sM) (Y : jTp I) (v : Int32) : ∃ r I1 I2, fX0_end 64 v (hw q I L) = some (r, hw q I1 L) ∧ fX3_end 136 v (hw q I1 L) = some (r, hw q I2 L) ∧ frF I I2 ∧ jTp I2 := by
  obtain ⟨K, B, V⟩ := J
  have M := K.1
  have X := B.1
  obtain ⟨n, hn, h10, h27, ht⟩ := Y
  by_cases c1 : v < nI 0
  · exact ⟨-(nI 1), I, I, by simp (disch := omega) only [fX0_end, nL, nI_add, nJ_mul, nJ_div, nJ_mod, nI_leI, nI_ltI, nI_eq, Option.bind_some, Option.bind_none, Nat.one_ne_zero, Nat.zero_ne_one, Nat.zero_add, Nat.add_zero, if_true, if_false, not_true_eq_false, not_false_eq_true, c1], by simp (disch := omega) only [fX3_end, nL, nI_add, nJ_mul, nJ_div, nJ_mod, nI_leI, nI_ltI, nI_eq, Option.bind_some, Option.bind_none, Nat.one_ne_zero, Nat.zero_ne_one, Nat.zero_add, Nat.add_zero, if_true, if_false, not_true_eq_false, not_false_eq_true, c1], ⟨fun _ _ _ _ _ => rfl, fun _ _ => rfl, fun _ _ => rfl⟩, n, hn, h10, h27, ht⟩
  · by_cases c2 : v ≤ nI n
    · have c1' := Int32.not_lt.mp c1
      rw [Int32.le_iff_toInt_le, nI_toInt (by omega)] at c1'
      have c2' := c2
      rw [Int32.le_iff_toInt_le, nI_toInt (by omega)] at c2'
      obtain ⟨k, hk, rfl⟩ := inB_of (v := v) (n := n + 1) (inB_iff.mpr (by omega)) (by omega)
      refine ⟨nI k, ph_u I 64 10 (nI k), ph_u (ph_u I 64 10 (nI k)) 136 27 (nI k), ?_, ?_, ⟨fun a h1 h2 h3 h4 => by rw [pu_ne h3, pu_ne h1], fun j hj => by rw [pu_ne (by decide), pu_nk hj], fun j hj => by rw [pu_nk hj, pu_ne (by decide)]⟩, k, by omega, by rw [pu_ne (by decide), pu_eq], pu_eq, fun j hj => ?_⟩
      · simp (disch := omega) only [fX0_end, nL, nI_add, nJ_mul, nJ_div, nJ_mod, nI_leI, nI_ltI, nI_eq, Option.bind_some, Option.bind_none, Nat.one_ne_zero, Nat.zero_ne_one, Nat.zero_add, Nat.add_zero, if_true, if_false, not_true_eq_false, not_false_eq_true, Nat.not_lt_zero, gx_I X, h10, show k ≤ n by omega, sx_I X]
      · simp (disch := omega) only [fX3_end, nL, nI_add, nJ_mul, nJ_div, nJ_mod, nI_leI, nI_ltI, nI_eq, Option.bind_some, Option.bind_none, Nat.one_ne_zero, Nat.zero_ne_one, Nat.zero_add, Nat.add_zero, if_true, if_false, not_true_eq_false, not_false_eq_true, Nat.not_lt_zero, gm_I M, pu_ne, h27, show k ≤ n by omega, sm_I M]
      · rw [pu_ne (by decide), pu_ne (by decide), pu_ne (by decide), pu_ne (by decide)]
        exact ht j hj
    · exact ⟨-(nI 1), I, I, by simp (disch := omega) only [fX0_end, nL, nI_add, nJ_mul, nJ_div, nJ_mod, nI_leI, nI_ltI, nI_eq, Option.bind_some, Option.bind_none, Nat.one_ne_zero, Nat.zero_ne_one, Nat.zero_add, Nat.add_zero, if_true, if_false, not_true_eq_false, not_false_eq_true, c1, gx_I X, h10, c2], by simp (disch := omega) only [fX3_end, nL, nI_add, nJ_mul, nJ_div, nJ_mod, nI_leI, nI_ltI, nI_eq, Option.bind_some, Option.bind_none, Nat.one_ne_zero, Nat.zero_ne_one, Nat.zero_add, Nat.add_zero, if_true, if_false, not_true_eq_false, not_false_eq_true, c1, gm_I M, h27, c2], ⟨fun _ _ _ _ _ => rfl, fun _ _ => rfl, fun _ _ => rfl⟩, n, hn, h10, h27, ht⟩
end JTT
