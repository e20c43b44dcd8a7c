/-! P2 JL: both answer: years that are drawn -/
theorem nI_64 {x : Nat} (h : x < 2 ^ 31) : (nI x).toInt64 = Int64.ofNat x := by
  apply Int64.toInt_inj.mp
  rw [Int32.toInt_toInt64, nI_toInt h, Int64.toInt_ofNat_of_lt (by omega)]
theorem nK_div {a b : Nat} (ha : a < 2 ^ 63) (hb : b < 2 ^ 63) : Int64.ofNat a / Int64.ofNat b = Int64.ofNat (a / b) := by
  apply Int64.toInt_inj.mp
  have hq : a / b < 2 ^ 63 := Nat.lt_of_le_of_lt (Nat.div_le_self a b) ha
  rw [Int64.toInt_div, Int64.toInt_ofNat_of_lt ha, Int64.toInt_ofNat_of_lt hb, Int64.toInt_ofNat_of_lt hq, show ((a : Int)).tdiv (b : Int) = ((a / b : Nat) : Int) from (Int.ofNat_tdiv a b).symm]
  generalize a / b = c at hq ⊢
  rw [Int.bmod_eq_of_le] <;> omega
theorem nK_mod {a b : Nat} (ha : a < 2 ^ 63) (hb : b < 2 ^ 63) : lr_ (Int64.ofNat a) (Int64.ofNat b) = Int64.ofNat (a % b) := by
  unfold lr_
  rw [nK_div ha hb, ← Int64.ofNat_mul]
  have e : Int64.ofNat (a % b) + Int64.ofNat (a / b * b) = Int64.ofNat a := by
    rw [← Int64.ofNat_add]
    congr 1
    have := Nat.div_add_mod a b
    rw [Nat.mul_comm] at this
    omega
  rw [← e, Int64.add_sub_cancel]
def dn (x : Nat) : Nat := (x * 1103515245 + 12345) % 2147483648
theorem dn_lt (x : Nat) : dn x < 2 ^ 31 := Nat.mod_lt _ (by decide)
theorem dr_e {x : Nat} (h : x < 2 ^ 31) : (lr_ ((nI x).toInt64 * 1103515245 + 12345) 2147483648).toInt32 = nI (dn x) := by
  have e : Int64.ofNat x * 1103515245 + 12345 = Int64.ofNat (x * 1103515245 + 12345) := by
    rw [Int64.ofNat_add, Int64.ofNat_mul]
    rfl
  rw [nI_64 h, e, show (2147483648 : Int64) = Int64.ofNat 2147483648 from rfl, nK_mod (by omega) (by omega), Int64.toInt32_ofNat']
  rfl
def a_drw (A : ld_t) : ld_t := lSet A 1 8 (dn (lA A 1 8))
def dwS (A : ld_t) (sM : Nat) : Nat := dn (lA A 1 8) / 65536 % sM
theorem a_drw_A {A : ld_t} {f i : Nat} (h : ¬ (f = 1 ∧ i = 8)) : lA (a_drw A) f i = lA A f i := if_neg h
theorem a_drw_8 {A : ld_t} : lA (a_drw A) 1 8 = dn (lA A 1 8) := by
  unfold a_drw
  rw [lSet_A, if_pos ⟨rfl, rfl⟩]
theorem lW_drw {A : ld_t} (W : lW A) : lW (a_drw A) := by
  obtain ⟨w1, w2, w3, w4, w5, w6⟩ := W
  unfold a_drw
  exact ⟨by simpa [lSet_A] using w1, by simpa [lSet_A] using w2, by simpa [lSet_A] using w3, by simpa [lSet_A] using w4, by simpa [lSet_A] using w5, by simpa [lSet_A, lSet_H] using w6⟩
/-- one person's draw: the land, how many got over, how many fell -/
abbrev yz_t : Type := ld_t × Nat × Nat
def dyB (T : Nat → Nat → Bool) (sM p : Nat) (z : yz_t) : yz_t := if lA z.1 6 p = 0 then ((a_cr (a_drw z.1) T p (dwS z.1 sM)).2, z.2.1 + (if (a_cr (a_drw z.1) T p (dwS z.1 sM)).1 = 3 then 1 else 0), z.2.2 + (if (a_cr (a_drw z.1) T p (dwS z.1 sM)).1 < 2 then 1 else 0)) else z
def dyM (A : ld_t) (sM : Nat) : Nat := if sM = 0 then 0 else lA A 1 2
def dyP (T : Nat → Nat → Bool) (sM : Nat) (z : yz_t) (n : Nat) : yz_t := fo_ (dyB T sM) z n
def dyD (T : Nat → Nat → Bool) (sM : Nat) (z : yz_t) : yz_t := (a_day (dyP T sM z (dyM z.1 sM)).1, (dyP T sM z (dyM z.1 sM)).2)
def dyN (T : Nat → Nat → Bool) (sM : Nat) (z : yz_t) (n : Nat) : yz_t := fo_ (fun _ z => dyD T sM z) z n
theorem dyB_1 {T : Nat → Nat → Bool} {sM p : Nat} {z : yz_t} (h : lA z.1 6 p = 0) : dyB T sM p z = ((a_cr (a_drw z.1) T p (dwS z.1 sM)).2, z.2.1 + (if (a_cr (a_drw z.1) T p (dwS z.1 sM)).1 = 3 then 1 else 0), z.2.2 + (if (a_cr (a_drw z.1) T p (dwS z.1 sM)).1 < 2 then 1 else 0)) := if_pos h
theorem dyB_0 {T : Nat → Nat → Bool} {sM p : Nat} {z : yz_t} (h : ¬ lA z.1 6 p = 0) : dyB T sM p z = z := if_neg h
theorem dyB_st {T : Nat → Nat → Bool} {sM p : Nat} {z : yz_t} {f i : Nat} (h : f = 0 ∨ (f = 1 ∧ i ≠ 8)) : lA (dyB T sM p z).1 f i = lA z.1 f i := by
  by_cases c : lA z.1 6 p = 0
  · rw [dyB_1 c]
    dsimp only
    rw [cr_st (by omega), a_drw_A (by omega)]
  · rw [dyB_0 c]
theorem dyP_st {T : Nat → Nat → Bool} {sM : Nat} {z : yz_t} {f i : Nat} (h : f = 0 ∨ (f = 1 ∧ i ≠ 8)) : ∀ n, lA (dyP T sM z n).1 f i = lA z.1 f i
  | 0 => rfl
  | n + 1 => by
    show lA (dyB T sM n (dyP T sM z n)).1 f i = _
    rw [dyB_st h, dyP_st h n]
theorem dyD_st {T : Nat → Nat → Bool} {sM : Nat} {z : yz_t} {f i : Nat} (h : f = 0 ∨ (f = 1 ∧ i ≠ 1 ∧ i ≠ 6 ∧ i ≠ 8)) : lA (dyD T sM z).1 f i = lA z.1 f i := by
  show lA (a_day _) f i = _
  rw [day_st (by omega), dyP_st (by omega)]
theorem dyD_6 {T : Nat → Nat → Bool} {sM : Nat} {z : yz_t} : lA (dyD T sM z).1 1 6 = lA z.1 1 6 + 1 := by
  have : lA (dyD T sM z).1 1 6 = lA (dyP T sM z (dyM z.1 sM)).1 1 6 + 1 := a_turns_A (by omega) _
  rw [this, dyP_st (by omega)]
theorem dyN_st {T : Nat → Nat → Bool} {sM : Nat} {z : yz_t} {f i : Nat} (h : f = 0 ∨ (f = 1 ∧ i ≠ 1 ∧ i ≠ 6 ∧ i ≠ 8)) : ∀ n, lA (dyN T sM z n).1 f i = lA z.1 f i
  | 0 => rfl
  | n + 1 => by
    show lA (dyD T sM (dyN T sM z n)).1 f i = _
    rw [dyD_st h, dyN_st h n]
theorem dyN_6 {T : Nat → Nat → Bool} {sM : Nat} {z : yz_t} : ∀ n, lA (dyN T sM z n).1 1 6 = lA z.1 1 6 + n
  | 0 => rfl
  | n + 1 => by
    show lA (dyD T sM (dyN T sM z n)).1 1 6 = _
    rw [dyD_6, dyN_6 n]
    omega
theorem cr_le {A : ld_t} {T : Nat → Nat → Bool} {p s : Nat} : (a_cr A T p s).1 ≤ 3 := by
  unfold a_cr
  split
  · simp
  · split
    · simp
    · split <;> simp
theorem dyP_dr {T : Nat → Nat → Bool} {sM : Nat} {z : yz_t} (h : lA z.1 1 8 < 2 ^ 31) : ∀ n, lA (dyP T sM z n).1 1 8 < 2 ^ 31
  | 0 => h
  | n + 1 => by
    have ih := dyP_dr (T := T) (sM := sM) h n
    show lA (dyB T sM n (dyP T sM z n)).1 1 8 < _
    by_cases c : lA (dyP T sM z n).1 6 n = 0
    · rw [dyB_1 c]
      dsimp only
      rw [cr_st (by omega), a_drw_8]
      exact dn_lt _
    · rw [dyB_0 c]; exact ih
theorem dyN_dr {T : Nat → Nat → Bool} {sM : Nat} {z : yz_t} (h : lA z.1 1 8 < 2 ^ 31) : ∀ n, lA (dyN T sM z n).1 1 8 < 2 ^ 31
  | 0 => h
  | n + 1 => by
    show lA (dyD T sM (dyN T sM z n)).1 1 8 < _
    show lA (a_day _) 1 8 < _
    rw [day_st (by omega)]
    exact dyP_dr (dyN_dr h n) _
section JLL
variable {q : ph_t} {I : iF} {L : lF_} {A : ld_t} {T : Nat → Nat → Bool} {sM : Nat}
/-- what a drawn day of the model changes -/
def frD (I I' : iF) : Prop := (∀ a, (a < 136 ∨ (151 < a ∧ a < 178) ∨ a = 179 ∨ 188 ≤ a) → I' a = I a) ∧ ∀ j, j ≠ 71 → j ≠ 72 → I' 136 j = I 136 j
theorem frD.rf {I : iF} : frD I I := ⟨fun _ _ => rfl, fun _ _ _ => rfl⟩
theorem frD.tr {I I' I'' : iF} (h : frD I I') (h' : frD I' I'') : frD I I'' := ⟨fun a ha => (h'.1 a ha).trans (h.1 a ha), fun j h1 h2 => (h'.2 j h1 h2).trans (h.2 j h1 h2)⟩
theorem frL.D {I I' : iF} (h : frL I I') : frD I I' := ⟨fun a ha => h a (by omega), fun j _ _ => by rw [h 136 (by omega)]⟩
/-- the model at a drawn state -/
def mY (q : ph_t) (I : iF) (T : Nat → Nat → Bool) (sM : Nat) (z : yz_t) : Prop := mK q I z.1 T sM ∧ I 136 71 = nI z.2.1 ∧ I 136 72 = nI z.2.2 ∧ lA z.1 1 8 < 2 ^ 31
theorem kE_draws (K : mK q I A T sM) (h : lA A 1 8 < 2 ^ 31) (h0 : 0 < sM) : ∃ I', fX3_draws 136 (nI sM) (hw q I L) = some (nI (dwS A sM), hw q I' L) ∧ frL I I' ∧ mK q I' (a_drw A) T sM := by
  obtain ⟨M, R, hT, hsM, W, h24⟩ := id K
  have hd := dn_lt (lA A 1 8)
  have e := dr_e h
  refine ⟨ph_u I 137 8 (nI (dn (lA A 1 8))), ?_, frL.rf.up (by omega), K.next (frL.rf.up (by omega)) (mlR_set (f := 1) R (by omega) (by omega)) (lW_drw W)⟩
  unfold dwS
  simp (disch := omega) only [fX3_draws, nL, nI_add, nJ_mul, nJ_div, nJ_mod, nI_leI, nI_ltI, nI_eq, Option.bind_some, Option.bind_none, Nat.one_ne_zero, Nat.zero_ne_one, Nat.zero_add, Nat.add_zero, if_true, if_false, not_true_eq_false, not_false_eq_true, gm1 M, xm137 M, ym137 M, rm1 R, e, pu_eq, show ¬ sM = 0 by omega]
theorem kE_dd9 {z : yz_t} (Y : mY q I T sM z) {p : Nat} {n : Int32} {k : Nat} (hp : p < lA z.1 1 2) (h0 : 0 < sM) : ∃ I', fX3_drawnDays_L9_b 136 n (nI k) (nI p) (hw q I L) = some (.inl (nI (p + 1), hw q I' L)) ∧ frD I I' ∧ mY q I' T sM (dyB T sM p z) := by
  obtain ⟨K, h1, h2, h8⟩ := Y
  obtain ⟨M, R, hT, hsM, W, h24⟩ := id K
  have w2 := W.1.2.2.1
  have wf := (W.2.1 p hp).2.2.2.2.2
  have e0 : (gI (hw q I L) (some 136) 2 32) = some (nI sM) := by rw [gm_I M, hsM]
  by_cases c : lA z.1 6 p = 0
  · obtain ⟨I1, a1, a2, a3⟩ := kE_draws (L := L) K h8 h0
    have hs : dwS z.1 sM < sM := Nat.mod_lt _ h0
    obtain ⟨I2, b1, b2, b3⟩ := kE_crosses (L := L) a3 (p := p) (s := dwS z.1 sM) (by rw [a_drw_A (by omega)]; exact hp) hs
    have hc := cr_le (A := a_drw z.1) (T := T) (p := p) (s := dwS z.1 sM)
    have g1 : I2 136 71 = nI z.2.1 := by rw [b2 136 (by omega), a2 136 (by omega)]; exact h1
    have g2 : I2 136 72 = nI z.2.2 := by rw [b2 136 (by omega), a2 136 (by omega)]; exact h2
    have hst : lA (a_cr (a_drw z.1) T p (dwS z.1 sM)).2 1 8 = dn (lA z.1 1 8) := by rw [cr_st (by omega)]; exact a_drw_8
    rw [dyB_1 c]
    have key : ∀ a b : Nat, mY q (ph_u (ph_u I2 136 71 (nI a)) 136 72 (nI b)) T sM ((a_cr (a_drw z.1) T p (dwS z.1 sM)).2, a, b) := fun a b => by
      refine ⟨b3.keep (fun c hc => by rw [pu_ne (by omega), pu_ne (by omega)]) (by rw [pu_nk (by decide), pu_nk (by decide)]) (by rw [pu_nk (by decide), pu_nk (by decide)]), by rw [pu_nk (by decide), pu_eq], by rw [pu_eq], by dsimp only; rw [hst]; exact dn_lt _⟩
    have fr : ∀ a b : Nat, frD I (ph_u (ph_u I2 136 71 (nI a)) 136 72 (nI b)) := fun a b => (a2.D.tr b2.D).tr ⟨fun c hc => by rw [pu_ne (by omega), pu_ne (by omega)], fun j j1 j2 => by rw [pu_nk j2, pu_nk j1]⟩
    generalize (a_cr (a_drw z.1) T p (dwS z.1 sM)).1 = r at b1 hc
    refine ⟨_, ?_, fr _ _, key _ _⟩
    by_cases c3 : r = 3
    · subst c3
      simp (disch := omega) only [fX3_drawnDays_L9_b, fX3_drawnDays_L66, fX3_drawnDays_L86, fX3_drawnDays_L90, nL, nI_add, nJ_mul, nJ_div, nJ_mod, nI_leI, nI_ltI, nI_eq, Option.bind_some, Option.bind_none, Nat.one_ne_zero, Nat.zero_ne_one, Nat.zero_add, Nat.add_zero, if_true, if_false, not_true_eq_false, not_false_eq_true, gm1 M, xm137 M, rm1 R, show ¬ lA z.1 1 2 ≤ p by omega, e0, show ¬ sM ≤ 0 by omega, gm6 M, xm142 M, rm6 R, c, dm M, a1, b1, gm_I M, sm_I M, g1, g2, pu_nk, show 2 ≤ 3 by omega, show ¬ 3 < 2 by omega]
    · by_cases c2 : 2 ≤ r
      · simp (disch := omega) only [fX3_drawnDays_L9_b, fX3_drawnDays_L66, fX3_drawnDays_L86, fX3_drawnDays_L90, nL, nI_add, nJ_mul, nJ_div, nJ_mod, nI_leI, nI_ltI, nI_eq, Option.bind_some, Option.bind_none, Nat.one_ne_zero, Nat.zero_ne_one, Nat.zero_add, Nat.add_zero, if_true, if_false, not_true_eq_false, not_false_eq_true, gm1 M, xm137 M, rm1 R, show ¬ lA z.1 1 2 ≤ p by omega, e0, show ¬ sM ≤ 0 by omega, gm6 M, xm142 M, rm6 R, c, dm M, a1, b1, gm_I M, sm_I M, g1, g2, pu_nk, c3, c2, show ¬ r < 2 by omega]
      · simp (disch := omega) only [fX3_drawnDays_L9_b, fX3_drawnDays_L66, fX3_drawnDays_L86, fX3_drawnDays_L90, nL, nI_add, nJ_mul, nJ_div, nJ_mod, nI_leI, nI_ltI, nI_eq, Option.bind_some, Option.bind_none, Nat.one_ne_zero, Nat.zero_ne_one, Nat.zero_add, Nat.add_zero, if_true, if_false, not_true_eq_false, not_false_eq_true, gm1 M, xm137 M, rm1 R, show ¬ lA z.1 1 2 ≤ p by omega, e0, show ¬ sM ≤ 0 by omega, gm6 M, xm142 M, rm6 R, c, dm M, a1, b1, gm_I M, sm_I M, g1, g2, pu_nk, c3, c2, show r < 2 by omega]
  · rw [dyB_0 c]
    exact ⟨I, by simp (disch := omega) only [fX3_drawnDays_L9_b, fX3_drawnDays_L90, nL, nI_add, nJ_mul, nJ_div, nJ_mod, nI_leI, nI_ltI, nI_eq, Option.bind_some, Option.bind_none, Nat.one_ne_zero, Nat.zero_ne_one, Nat.zero_add, Nat.add_zero, if_true, if_false, not_true_eq_false, not_false_eq_true, gm1 M, xm137 M, rm1 R, show ¬ lA z.1 1 2 ≤ p by omega, e0, show ¬ sM ≤ 0 by omega, gm6 M, xm142 M, rm6 R, c], frD.rf, K, h1, h2, h8⟩
theorem kE_dd9w {z : yz_t} (Y : mY q I T sM z) (hd : lA z.1 1 6 < 20000) {n : Int32} {k : Nat} : ∃ I', fX3_drawnDays_L9 136 n (nI k) (nI 0) (hw q I L) = some (.inl (nI (k + 1), hw q I' L)) ∧ frD I I' ∧ mY q I' T sM (dyD T sM z) := by
  have hM := Y.1.1
  have : ∃ t, fX3_drawnDays_L9 136 n (nI k) (nI 0) (hw q I L) = some t ∧ ∃ I', t = .inl (nI (k + 1), hw q I' L) ∧ frD I I' ∧ mY q I' T sM (dyD T sM z) := by
    unfold fX3_drawnDays_L9
    refine whl_st (α := iF) (fun p U => (nI p, hw q U L)) (fun p U => frD I U ∧ mY q U T sM (dyP T sM z p)) (dyM z.1 sM) (a := I) rfl ⟨frD.rf, Y⟩ ?_ ?_
    · rintro p U hp ⟨f1, f2⟩
      have h0 : 0 < sM := by
        unfold dyM at hp
        by_cases c : sM = 0
        · rw [if_pos c] at hp; omega
        · omega
      have hp2 : p < lA (dyP T sM z p).1 1 2 := by
        rw [dyP_st (by omega)]
        unfold dyM at hp
        rw [if_neg (by omega)] at hp
        exact hp
      obtain ⟨U', a1, a2, a3⟩ := kE_dd9 (L := L) f2 (n := n) (k := k) hp2 h0
      exact ⟨U', a1, f1.tr a2, a3⟩
    · rintro U ⟨f1, f2⟩
      obtain ⟨K, h1, h2, h8⟩ := f2
      have w2 := K.2.2.2.2.1.1.2.2.1
      have r2 : U 137 2 = nI (lA (dyP T sM z (dyM z.1 sM)).1 1 2) := rm1 K.2.1 (by decide)
      have hs1 := K.2.2.2.1
      have e12 : lA (dyP T sM z (dyM z.1 sM)).1 1 2 = lA z.1 1 2 := dyP_st (by omega) _
      have h24 := K.2.2.2.2.2
      obtain ⟨U', b1, b2, b3⟩ := kE_dayPasses (L := L) K (by rw [dyP_st (by omega)]; exact hd)
      refine ⟨.inl (nI (k + 1), hw q U' L), ?_, U', rfl, f1.tr b2.D, b3, by rw [b2 136 (by omega)]; exact h1, by rw [b2 136 (by omega)]; exact h2, ?_⟩
      · have e96 : fX3_drawnDays_L96 136 n (nI k) (hw q U L) = some (.inl (nI (k + 1), hw q U' L)) := by
          simp (disch := omega) only [fX3_drawnDays_L96, nL, nI_add, nJ_mul, nJ_div, nJ_mod, nI_leI, nI_ltI, nI_eq, Option.bind_some, Option.bind_none, Nat.one_ne_zero, Nat.zero_ne_one, Nat.zero_add, Nat.add_zero, if_true, if_false, not_true_eq_false, not_false_eq_true, dm hM, b1]
        by_cases c : sM = 0
        · have hm : dyM z.1 sM = 0 := if_pos c
          rw [hm] at *
          by_cases c2 : lA z.1 1 2 = 0
          · simp (disch := omega) only [fX3_drawnDays_L9_b, nL, nI_add, nJ_mul, nJ_div, nJ_mod, nI_leI, nI_ltI, nI_eq, Option.bind_some, Option.bind_none, Nat.one_ne_zero, Nat.zero_ne_one, Nat.zero_add, Nat.add_zero, if_true, if_false, not_true_eq_false, not_false_eq_true, gm1 hM, xm137 hM, r2, e12, c2, Nat.le_refl, e96, xr_s]
          · have hs0 : U 136 32 = nI 0 := by rw [hs1, c]
            simp (disch := omega) only [fX3_drawnDays_L9_b, nL, nI_add, nJ_mul, nJ_div, nJ_mod, nI_leI, nI_ltI, nI_eq, Option.bind_some, Option.bind_none, Nat.one_ne_zero, Nat.zero_ne_one, Nat.zero_add, Nat.add_zero, if_true, if_false, not_true_eq_false, not_false_eq_true, gm1 hM, xm137 hM, r2, e12, show ¬ lA z.1 1 2 ≤ 0 by omega, gm_I hM, hs0, Nat.le_refl, e96, xr_s]
        · have hm : dyM z.1 sM = lA z.1 1 2 := if_neg c
          rw [hm] at *
          simp (disch := omega) only [fX3_drawnDays_L9_b, nL, nI_add, nJ_mul, nJ_div, nJ_mod, nI_leI, nI_ltI, nI_eq, Option.bind_some, Option.bind_none, Nat.one_ne_zero, Nat.zero_ne_one, Nat.zero_add, Nat.add_zero, if_true, if_false, not_true_eq_false, not_false_eq_true, gm1 hM, xm137 hM, r2, e12, Nat.le_refl, e96, xr_s]
      · show lA (a_day _) 1 8 < _
        rw [day_st (by omega)]
        exact h8
  obtain ⟨t, a1, I', rfl, a2⟩ := this
  exact ⟨I', a1, a2⟩
theorem kE_drawnDays {z : yz_t} (Y : mY q I T sM z) {n : Nat} (hn : n ≤ 60) (hd : lA z.1 1 6 ≤ 9999) : ∃ I', fX3_drawnDays 136 (nI n) (hw q I L) = some ((), hw q I' L) ∧ frD I I' ∧ mY q I' T sM (dyN T sM z n) := by
  have : ∃ t, fX3_drawnDays 136 (nI n) (hw q I L) = some t ∧ ∃ I', t = ((), hw q I' L) ∧ frD I I' ∧ mY q I' T sM (dyN T sM z n) := by
    unfold fX3_drawnDays fX3_drawnDays_L2
    refine whl_st (α := iF) (fun k U => (nI k, hw q U L)) (fun k U => frD I U ∧ mY q U T sM (dyN T sM z k)) n (a := I) rfl ⟨frD.rf, Y⟩ ?_ ?_
    · rintro k U hk ⟨f1, f2⟩
      obtain ⟨U', a1, a2, a3⟩ := kE_dd9w (L := L) f2 (n := nI n) (k := k) (by rw [dyN_6]; omega)
      exact ⟨U', by simp (disch := omega) only [fX3_drawnDays_L2_b, nL, nI_add, nJ_mul, nJ_div, nJ_mod, nI_leI, nI_ltI, nI_eq, Option.bind_some, Option.bind_none, Nat.one_ne_zero, Nat.zero_ne_one, Nat.zero_add, Nat.add_zero, if_true, if_false, not_true_eq_false, not_false_eq_true, show ¬ n ≤ k by omega, a1], f1.tr a2, a3⟩
    · rintro U ⟨f1, f2⟩
      exact ⟨_, by simp (disch := omega) only [fX3_drawnDays_L2_b, nL, nI_add, nJ_mul, nJ_div, nJ_mod, nI_leI, nI_ltI, nI_eq, Option.bind_some, Option.bind_none, Nat.one_ne_zero, Nat.zero_ne_one, Nat.zero_add, Nat.add_zero, if_true, if_false, not_true_eq_false, not_false_eq_true, Nat.le_refl, xr_s] <;> rfl, U, rfl, f1, f2⟩
  obtain ⟨t, a1, I', rfl, a2⟩ := this
  exact ⟨I', a1, a2⟩
-- TruthBridge's
def frY (I I' : iF) : Prop := (∀ a, (a < 80 ∨ 93 < a) → a ≠ 64 → I' a = I a) ∧ ∀ j, j ≠ 26 → j ≠ 27 → j ≠ 28 → I' 64 j = I 64 j
theorem frY.rf {I : iF} : frY I I := ⟨fun _ _ _ => rfl, fun _ _ _ _ => rfl⟩
theorem frY.tr {I I' I'' : iF} (h : frY I I') (h' : frY I' I'') : frY I I'' := ⟨fun a h1 h2 => (h'.1 a h1 h2).trans (h.1 a h1 h2), fun j h1 h2 h3 => (h'.2 j h1 h2 h3).trans (h.2 j h1 h2 h3)⟩
theorem frG.Y {I I' : iF} (h : frG 80 I I') : frY I I' := ⟨fun a h1 _ => h a (by omega), fun j _ _ _ => by rw [h 64 (by omega)]⟩
theorem frY.up {I I' : iF} {k : Nat} {v : Int32} (h : frY I I') (hk : 26 ≤ k ∧ k ≤ 28) : frY I (ph_u I' 64 k v) := ⟨fun a h1 h2 => by rw [pu_ne h2]; exact h.1 a h1 h2, fun j h1 h2 h3 => by rw [pu_nk (by omega)]; exact h.2 j h1 h2 h3⟩
theorem bK.fld {g : Nat} (K : bK q g I L A T sM) {k : Nat} {v : Int32} (hk : k ≠ 1) : bK q g (ph_u I 64 k v) L A T sM := by
  obtain ⟨X, G, R, hT, hsM, W, h24, hg⟩ := K
  exact ⟨X, G, glR_keep W R (fun a h1 h2 => pu_ne (by omega)) (fun _ _ _ => rfl), hT, by rw [pu_nk (fun z => hk z.symm)]; exact hsM, W, h24, hg⟩
def xY (q : ph_t) (I : iF) (L : lF_) (T : Nat → Nat → Bool) (sM : Nat) (z : yz_t) : Prop := bK q 80 I L z.1 T sM ∧ I 64 26 = nI (lA z.1 1 8) ∧ I 64 27 = nI z.2.1 ∧ I 64 28 = nI z.2.2 ∧ lA z.1 1 8 < 2 ^ 31
theorem bK_draw (K : bK q 80 I L A T sM) (h26 : I 64 26 = nI (lA A 1 8)) (h : lA A 1 8 < 2 ^ 31) (h0 : 0 < sM) : fX0_draw 64 (nI sM) (hw q I L) = some (nI (dwS A sM), hw q (ph_u I 64 26 (nI (dn (lA A 1 8)))) L) := by
  obtain ⟨X, G, R, hT, hsM, W, h24, hg⟩ := id K
  have hd := dn_lt (lA A 1 8)
  have e := dr_e h
  unfold dwS
  simp (disch := omega) only [fX0_draw, nL, nI_add, nJ_mul, nJ_div, nJ_mod, nI_leI, nI_ltI, nI_eq, Option.bind_some, Option.bind_none, Nat.one_ne_zero, Nat.zero_ne_one, Nat.zero_add, Nat.add_zero, if_true, if_false, not_true_eq_false, not_false_eq_true, gx_I X, sx_I X, h26, e, pu_eq, show ¬ sM = 0 by omega]
theorem bK_drw (K : bK q 80 I L A T sM) : bK q 80 I L (a_drw A) T sM := by
  obtain ⟨X, G, R, hT, hsM, W, h24, hg⟩ := K
  exact ⟨X, G, glR_SD (glS_cong R.S (fun _ _ _ => rfl) (fun _ _ => rfl) rfl (fun f i h => a_drw_A h.2.2.2.2.2) rfl) ⟨R.f1, R.f6, R.D.2.2.1, R.D.2.2.2⟩, hT, hsM, lW_drw W, h24, hg⟩
theorem bK_dd2 {z : yz_t} (Y : xY q I L T sM z) {p : Nat} (hp : p < lA z.1 1 2) (h0 : 0 < sM) : ∃ I' L', fX0_dayDrawn_L2_b 64 (some 80) (nI p) (hw q I L) = some (.inl (nI (p + 1), hw q I' L')) ∧ frY I I' ∧ frH 80 L L' ∧ xY q I' L' T sM (dyB T sM p z) := by
  obtain ⟨K, h26, h27, h28, h8⟩ := Y
  obtain ⟨X, G, R, hT, hsM, W, h24, hg⟩ := id K
  have w2 := W.1.2.2.1
  have wf := (W.2.1 p hp).2.2.2.2.2
  have s13 : gR (hw q I L) (some 80) 1 13 = some (some 85) := gg13 G
  have t13 : xI (hw q I L) (some 85) 20 (nI p) = some (I 85 p) := xg13 G (by omega)
  have r13 : I 85 p = nI (lA z.1 6 p) := R.p5 hp
  by_cases c : lA z.1 6 p = 0
  · have a1 := bK_draw (L := L) K h26 h8 h0
    have hs : dwS z.1 sM < sM := Nat.mod_lt _ h0
    obtain ⟨I2, L2, b1, b2, b3, b4⟩ := bK_crosses (L := L) (bK_drw (K.fld (k := 26) (v := nI (dn (lA z.1 1 8))) (by decide))) (p := p) (s := dwS z.1 sM) (by rw [a_drw_A (by omega)]; exact hp) hs
    have hc := cr_le (A := a_drw z.1) (T := T) (p := p) (s := dwS z.1 sM)
    have g0 : I2 64 26 = nI (dn (lA z.1 1 8)) := by rw [b2 64 (by omega), pu_eq]
    have g1 : I2 64 27 = nI z.2.1 := by rw [b2 64 (by omega), pu_nk (by decide)]; exact h27
    have g2 : I2 64 28 = nI z.2.2 := by rw [b2 64 (by omega), pu_nk (by decide)]; exact h28
    have hst : lA (a_cr (a_drw z.1) T p (dwS z.1 sM)).2 1 8 = dn (lA z.1 1 8) := by rw [cr_st (by omega)]; exact a_drw_8
    rw [dyB_1 c]
    have key : ∀ a b : Nat, xY q (ph_u (ph_u I2 64 27 (nI a)) 64 28 (nI b)) L2 T sM ((a_cr (a_drw z.1) T p (dwS z.1 sM)).2, a, b) := fun a b => by
      refine ⟨(b4.fld (by decide)).fld (by decide), by dsimp only; rw [pu_nk (by decide), pu_nk (by decide), g0, hst], by rw [pu_nk (by decide), pu_eq], by rw [pu_eq], by dsimp only; rw [hst]; exact dn_lt _⟩
    have fr : ∀ a b : Nat, frY I (ph_u (ph_u I2 64 27 (nI a)) 64 28 (nI b)) := fun a b => (((frY.rf.up (by omega)).tr b2.Y).up (by omega)).up (by omega)
    generalize (a_cr (a_drw z.1) T p (dwS z.1 sM)).1 = r at b1 hc
    refine ⟨_, L2, ?_, fr _ _, b3, key _ _⟩
    by_cases c3 : r = 3
    · subst c3
      simp (disch := omega) only [fX0_dayDrawn_L2_b, fX0_dayDrawn_L60, fX0_dayDrawn_L79, fX0_dayDrawn_L83, nL, nI_add, nJ_mul, nJ_div, nJ_mod, nI_leI, nI_ltI, nI_eq, Option.bind_some, Option.bind_none, Nat.one_ne_zero, Nat.zero_ne_one, Nat.zero_add, Nat.add_zero, if_true, if_false, not_true_eq_false, not_false_eq_true, gg_I G, R.f2, show ¬ lA z.1 1 2 ≤ p by omega, gx_I X, sx_I X, hsM, show ¬ sM ≤ 0 by omega, s13, t13, r13, c, dx X, a1, b1, g1, g2, pu_nk, show 2 ≤ 3 by omega, show ¬ 3 < 2 by omega]
    · by_cases c2 : 2 ≤ r
      · simp (disch := omega) only [fX0_dayDrawn_L2_b, fX0_dayDrawn_L60, fX0_dayDrawn_L79, fX0_dayDrawn_L83, nL, nI_add, nJ_mul, nJ_div, nJ_mod, nI_leI, nI_ltI, nI_eq, Option.bind_some, Option.bind_none, Nat.one_ne_zero, Nat.zero_ne_one, Nat.zero_add, Nat.add_zero, if_true, if_false, not_true_eq_false, not_false_eq_true, gg_I G, R.f2, show ¬ lA z.1 1 2 ≤ p by omega, gx_I X, sx_I X, hsM, show ¬ sM ≤ 0 by omega, s13, t13, r13, c, dx X, a1, b1, g1, g2, pu_nk, c3, c2, show ¬ r < 2 by omega]
      · simp (disch := omega) only [fX0_dayDrawn_L2_b, fX0_dayDrawn_L60, fX0_dayDrawn_L79, fX0_dayDrawn_L83, nL, nI_add, nJ_mul, nJ_div, nJ_mod, nI_leI, nI_ltI, nI_eq, Option.bind_some, Option.bind_none, Nat.one_ne_zero, Nat.zero_ne_one, Nat.zero_add, Nat.add_zero, if_true, if_false, not_true_eq_false, not_false_eq_true, gg_I G, R.f2, show ¬ lA z.1 1 2 ≤ p by omega, gx_I X, sx_I X, hsM, show ¬ sM ≤ 0 by omega, s13, t13, r13, c, dx X, a1, b1, g1, g2, pu_nk, c3, c2, show r < 2 by omega]
  · rw [dyB_0 c]
    have c1 : lA z.1 6 p = 1 := by omega
    exact ⟨I, L, by simp (disch := omega) only [fX0_dayDrawn_L2_b, fX0_dayDrawn_L83, nL, nI_add, nJ_mul, nJ_div, nJ_mod, nI_leI, nI_ltI, nI_eq, Option.bind_some, Option.bind_none, Nat.one_ne_zero, Nat.zero_ne_one, Nat.zero_add, Nat.add_zero, if_true, if_false, not_true_eq_false, not_false_eq_true, gg_I G, R.f2, show ¬ lA z.1 1 2 ≤ p by omega, gx_I X, hsM, show ¬ sM ≤ 0 by omega, s13, t13, r13, c1], frY.rf, frH.rf, K, h26, h27, h28, h8⟩
theorem bK_dayDrawn {z : yz_t} (Y : xY q I L T sM z) (hd : lA z.1 1 6 < 20000) : ∃ I' L', fX0_dayDrawn 64 (some 80) (hw q I L) = some ((), hw q I' L') ∧ frY I I' ∧ frH 80 L L' ∧ xY q I' L' T sM (dyD T sM z) := by
  have X := Y.1.1
  have G := Y.1.2.1
  have : ∃ t, fX0_dayDrawn 64 (some 80) (hw q I L) = some t ∧ ∃ I' L', t = ((), hw q I' L') ∧ frY I I' ∧ frH 80 L L' ∧ xY q I' L' T sM (dyD T sM z) := by
    unfold fX0_dayDrawn fX0_dayDrawn_L2
    refine whl_st (α := iF × lF_) (fun p U => (nI p, hw q U.1 U.2)) (fun p U => frY I U.1 ∧ frH 80 L U.2 ∧ xY q U.1 U.2 T sM (dyP T sM z p)) (dyM z.1 sM) (a := (I, L)) rfl ⟨frY.rf, frH.rf, Y⟩ ?_ ?_
    · rintro p ⟨U, N⟩ hp ⟨f1, f2, f3⟩
      dsimp only at f1 f2 f3 ⊢
      have h0 : 0 < sM := by
        unfold dyM at hp
        by_cases c : sM = 0
        · rw [if_pos c] at hp; omega
        · omega
      have hp2 : p < lA (dyP T sM z p).1 1 2 := by
        rw [dyP_st (by omega)]
        unfold dyM at hp
        rw [if_neg (by omega)] at hp
        exact hp
      obtain ⟨U', N', a1, a2, a3, a4⟩ := bK_dd2 (L := N) f3 hp2 h0
      exact ⟨(U', N'), a1, f1.tr a2, f2.tr a3, a4⟩
    · rintro ⟨U, N⟩ ⟨f1, f2, f3⟩
      dsimp only at f1 f2 f3 ⊢
      obtain ⟨K, h26, h27, h28, h8⟩ := f3
      have w2 := K.2.2.2.2.2.1.1.2.2.1
      have r2 : U 80 2 = nI (lA (dyP T sM z (dyM z.1 sM)).1 1 2) := K.2.2.1.f2
      have hs1 := K.2.2.2.2.1
      have h24 := K.2.2.2.2.2.2.1
      have e12 : lA (dyP T sM z (dyM z.1 sM)).1 1 2 = lA z.1 1 2 := dyP_st (by omega) _
      obtain ⟨U', N', b1, b2, b3, b4⟩ := bK_dayGoes (L := N) K (by rw [dyP_st (by omega)]; exact hd)
      have e8 : lA (dyD T sM z).1 1 8 = lA (dyP T sM z (dyM z.1 sM)).1 1 8 := day_st (by omega)
      refine ⟨((), hw q U' N'), ?_, U', N', rfl, f1.tr b2.Y, f2.tr b3, b4, by rw [b2 64 (by omega), e8]; exact h26, by rw [b2 64 (by omega)]; exact h27, by rw [b2 64 (by omega)]; exact h28, by rw [e8]; exact h8⟩
      have e96 : fX0_dayDrawn_L89 64 (some 80) (hw q U N) = some ((), hw q U' N') := by
        simp (disch := omega) only [fX0_dayDrawn_L89, nL, nI_add, nJ_mul, nJ_div, nJ_mod, nI_leI, nI_ltI, nI_eq, Option.bind_some, Option.bind_none, Nat.one_ne_zero, Nat.zero_ne_one, Nat.zero_add, Nat.add_zero, if_true, if_false, not_true_eq_false, not_false_eq_true, dg G, b1]
      by_cases c : sM = 0
      · have hm : dyM z.1 sM = 0 := if_pos c
        rw [hm] at *
        by_cases c2 : lA z.1 1 2 = 0
        · simp (disch := omega) only [fX0_dayDrawn_L2_b, nL, nI_add, nJ_mul, nJ_div, nJ_mod, nI_leI, nI_ltI, nI_eq, Option.bind_some, Option.bind_none, Nat.one_ne_zero, Nat.zero_ne_one, Nat.zero_add, Nat.add_zero, if_true, if_false, not_true_eq_false, not_false_eq_true, gg_I G, r2, e12, c2, Nat.le_refl, e96, xr_s]
        · have hs0 : U 64 1 = nI 0 := by rw [hs1, c]
          simp (disch := omega) only [fX0_dayDrawn_L2_b, nL, nI_add, nJ_mul, nJ_div, nJ_mod, nI_leI, nI_ltI, nI_eq, Option.bind_some, Option.bind_none, Nat.one_ne_zero, Nat.zero_ne_one, Nat.zero_add, Nat.add_zero, if_true, if_false, not_true_eq_false, not_false_eq_true, gg_I G, r2, e12, show ¬ lA z.1 1 2 ≤ 0 by omega, gx_I X, hs0, Nat.le_refl, e96, xr_s]
      · have hm : dyM z.1 sM = lA z.1 1 2 := if_neg c
        rw [hm] at *
        simp (disch := omega) only [fX0_dayDrawn_L2_b, nL, nI_add, nJ_mul, nJ_div, nJ_mod, nI_leI, nI_ltI, nI_eq, Option.bind_some, Option.bind_none, Nat.one_ne_zero, Nat.zero_ne_one, Nat.zero_add, Nat.add_zero, if_true, if_false, not_true_eq_false, not_false_eq_true, gg_I G, r2, e12, Nat.le_refl, e96, xr_s]
  obtain ⟨t, a1, I', L', rfl, a2⟩ := this
  exact ⟨I', L', a1, a2⟩
end JLL
