/-! P2 JM: both answer: years -/
theorem cr_sF {A : ld_t} {T : Nat → Nat → Bool} {p s f i : Nat} (h : stF f i) : lA (a_cr A T p s).2 f i = lA A f i := by
  obtain ⟨h1, h2, h3, h4⟩ := h
  unfold a_cr
  split
  · rw [lSet_A, if_neg (by omega)]
  · split
    · rw [lSet_A, if_neg (by omega)]
    · split
      · rw [lSet_A, if_neg (by omega)]; rfl
      · rfl
theorem cr_P {A : ld_t} {T : Nat → Nat → Bool} {p s : Nat} : lP (a_cr A T p s).2 = lP A := by
  unfold a_cr
  split
  · rfl
  · split
    · rfl
    · split <;> rfl
theorem day_sF {A : ld_t} {f i : Nat} (h : stF f i) : lA (a_day A) f i = lA A f i := by
  obtain ⟨h1, h2, h3, h4, h5, h6⟩ := h
  have : lA (a_day A) f i = lA (a_day0 A) f i := a_turns_A (by omega) _
  rw [this]
  show (if f = 1 ∧ i = 6 then _ else if f = 5 ∨ f = 6 then 0 else A.1 f i) = _
  rw [if_neg (by omega), if_neg (by omega)]
  rfl
theorem day_P {A : ld_t} : lP (a_day A) = lP A := a_turns_P _
theorem dyB_P {T : Nat → Nat → Bool} {sM p : Nat} {z : yz_t} : lP (dyB T sM p z).1 = lP z.1 := by
  by_cases c : lA z.1 6 p = 0
  · rw [dyB_1 c]
    dsimp only
    rw [cr_P]
    rfl
  · rw [dyB_0 c]
theorem dyB_sF {T : Nat → Nat → Bool} {sM p : Nat} {z : yz_t} {f i : Nat} (h : stF f i) : lA (dyB T sM p z).1 f i = lA z.1 f i := by
  by_cases c : lA z.1 6 p = 0
  · rw [dyB_1 c]
    dsimp only
    rw [cr_sF h, a_drw_A h.2.2.2.2.2]
  · rw [dyB_0 c]
theorem dyP_P {T : Nat → Nat → Bool} {sM : Nat} {z : yz_t} : ∀ n, lP (dyP T sM z n).1 = lP z.1
  | 0 => rfl
  | n + 1 => dyB_P.trans (dyP_P (T := T) (sM := sM) (z := z) n)
theorem dyP_sF {T : Nat → Nat → Bool} {sM : Nat} {z : yz_t} {f i : Nat} (h : stF f i) : ∀ n, lA (dyP T sM z n).1 f i = lA z.1 f i
  | 0 => rfl
  | n + 1 => (dyB_sF h).trans (dyP_sF h n)
theorem dyN_P {T : Nat → Nat → Bool} {sM : Nat} {z : yz_t} : ∀ n, lP (dyN T sM z n).1 = lP z.1
  | 0 => rfl
  | n + 1 => (day_P.trans (dyP_P (T := T) (sM := sM) (z := dyN T sM z n) _)).trans (dyN_P n)
theorem dyN_sF {T : Nat → Nat → Bool} {sM : Nat} {z : yz_t} {f i : Nat} (h : stF f i) : ∀ n, lA (dyN T sM z n).1 f i = lA z.1 f i
  | 0 => rfl
  | n + 1 => ((day_sF h).trans (dyP_sF (T := T) (sM := sM) (z := dyN T sM z n) h _)).trans (dyN_sF h n)
/-- a year begins as the land stands, but with its own draw -/
def yrZ (A : ld_t) (T : Nat → Nat → Bool) (sM n : Nat) (s : Nat × Nat × Nat × Nat) : yz_t := dyN T sM (lSet A 1 8 s.1, s.2.1, s.2.2.1) n
def yrB (A : ld_t) (T : Nat → Nat → Bool) (sM n : Nat) (s : Nat × Nat × Nat × Nat) : Nat × Nat × Nat × Nat := (lA (yrZ A T sM n s).1 1 8, (yrZ A T sM n s).2.1, (yrZ A T sM n s).2.2, s.2.2.2 + fb_ct (lH (yrZ A T sM n s).1 6) 256)
def yrF (A : ld_t) (T : Nat → Nat → Bool) (sM n k : Nat) : Nat × Nat × Nat × Nat := fo_ (fun _ s => yrB A T sM n s) (lA A 1 8, 0, 0, 0) k
theorem lW_8 {A : ld_t} (W : lW A) {v : Nat} : lW (lSet A 1 8 v) := by
  obtain ⟨w1, w2, w3, w4, w5, w6⟩ := W
  exact ⟨by simpa [lSet_A] using w1, by simpa [lSet_A] using w2, by simpa [lSet_A] using w3, by simpa [lSet_A] using w4, by simpa [lSet_A] using w5, by simpa [lSet_A, lSet_H] using w6⟩
theorem yrZ_8 {A : ld_t} {T : Nat → Nat → Bool} {sM n : Nat} {s : Nat × Nat × Nat × Nat} (h : s.1 < 2 ^ 31) : lA (yrZ A T sM n s).1 1 8 < 2 ^ 31 := dyN_dr (by rw [lSet_A, if_pos ⟨rfl, rfl⟩]; exact h) n
theorem lSet_8 {A : ld_t} {v : Nat} : lA (lSet A 1 8 v) 1 8 = v := by rw [lSet_A, if_pos ⟨rfl, rfl⟩]
theorem lSet_6 {A : ld_t} {v : Nat} : lA (lSet A 1 8 v) 1 6 = lA A 1 6 := by rw [lSet_A, if_neg (by omega)]
theorem pu_se {α : Type} {I : Nat → Nat → α} {a k : Nat} {v : α} (h : I a k = v) : ph_u I a k v = I := by
  funext b j
  unfold ph_u
  split
  · rename_i c
    obtain ⟨rfl, rfl⟩ := c
    exact h.symm
  · rfl
section JMM
variable {q : ph_t} {I : iF} {L : lF_} {A : ld_t} {T : Nat → Nat → Bool} {sM : Nat}
theorem frD.tT {I I' : iF} (h : frD I I') : frT I I' := ⟨fun a ha => h.1 a (by omega), fun j _ => by rw [h.1 188 (by omega)], fun j hj => h.2 j (by omega) (by omega)⟩
theorem kE_yr78 (K : mK q I A T sM) (RA : mlR (mlI I 4) A) {k n w : Nat} (hn : n ≤ 60) (hd : lA A 1 6 ≤ 9999) (h8 : lA A 1 8 < 2 ^ 31) (h71 : I 136 71 = nI 0) (h72 : I 136 72 = nI 0) (hk : k ≤ 10) (hw2 : w ≤ 2) : ∃ I', fX3_years_L78 136 (nI k) (nI n) (nI w) (nI (lA A 1 8)) (nI (lA A 1 8)) (nI 0) (nI 0) (hw q I L) = some (nI (if w = 0 then (yrF A T sM n k).2.1 else if w = 1 then (yrF A T sM n k).2.2.1 else (yrF A T sM n k).2.2.2), hw q I' L) ∧ frT I I' ∧ mK q I' A T sM := by
  have : ∃ t, fX3_years_L78 136 (nI k) (nI n) (nI w) (nI (lA A 1 8)) (nI (lA A 1 8)) (nI 0) (nI 0) (hw q I L) = some t ∧ ∃ I', t = (nI (if w = 0 then (yrF A T sM n k).2.1 else if w = 1 then (yrF A T sM n k).2.2.1 else (yrF A T sM n k).2.2.2), hw q I' L) ∧ frT I I' ∧ mK q I' A T sM := by
    unfold fX3_years_L78
    refine whl_st (α := iF) (fun i U => (nI (yrF A T sM n i).1, nI (yrF A T sM n i).2.2.2, nI i, hw q U L)) (fun i U => frT I U ∧ mK q U A T sM ∧ mlR (mlI U 4) A ∧ U 136 71 = nI (yrF A T sM n i).2.1 ∧ U 136 72 = nI (yrF A T sM n i).2.2.1 ∧ (yrF A T sM n i).1 < 2 ^ 31) k (a := I) rfl ⟨frT.rf, K, RA, h71, h72, h8⟩ ?_ ?_
    · rintro i U hi ⟨f1, f2, f3, f4, f5, f6⟩
      rw [show yrF A T sM n (i + 1) = yrB A T sM n (yrF A T sM n i) from rfl]
      generalize yrF A T sM n i = s at f4 f5 f6
      obtain ⟨M, R, hT, hsM, W, h24⟩ := id f2
      have K1 : mK q (ph_u U 137 8 (nI s.1)) (lSet A 1 8 s.1) T sM := f2.next (frL.rf.up (by omega)) (mlR_set (f := 1) R (by omega) (by omega)) (lW_8 W)
      have Y : mY q (ph_u U 137 8 (nI s.1)) T sM (lSet A 1 8 s.1, s.2.1, s.2.2.1) := ⟨K1, by rw [pu_ne (by omega)]; exact f4, by rw [pu_ne (by omega)]; exact f5, by dsimp only; rw [lSet_8]; exact f6⟩
      obtain ⟨U2, a1, a2, a3⟩ := kE_drawnDays (L := L) Y hn (by dsimp only; rw [lSet_6]; exact hd)
      have hz := yrZ_8 (A := A) (T := T) (sM := sM) (n := n) f6
      unfold yrB
      have e : dyN T sM (lSet A 1 8 s.1, s.2.1, s.2.2.1) n = yrZ A T sM n s := rfl
      rw [e] at a3
      generalize yrZ A T sM n s = z at a3 hz
      obtain ⟨c1, c2, c3, c4⟩ := a3
      have m6 := mE_manyHeld (L := L) c1.1 c1.2.1 (who := 6) (Or.inr rfl) c1.2.2.2.2.1
      have e8 : U2 137 8 = nI (lA z.1 1 8) := rm1 c1.2.1 (by decide)
      have e188 : U2 188 = U 188 := by rw [a2.1 188 (by omega), pu_ne (by omega)]
      obtain ⟨U3, b1, b2, b3, b4, b5⟩ := kE_laysBack (L := L) c1 (A := A) (by rw [mlI_eq e188]; exact f3) W
      have fr1 : frT U (ph_u U 137 8 (nI s.1)) := frT.rf.up (by omega)
      refine ⟨U3, ?_, f1.tr (fr1.tr (a2.tT.tr b2)), b5, by rw [mlI_eq (b3 188 (by omega)), mlI_eq e188]; exact f3, by rw [b4 71 (by omega) (by omega) (by omega)]; exact c2, by rw [b4 72 (by omega) (by omega) (by omega)]; exact c3, hz⟩
      simp (disch := omega) only [fX3_years_L78_b, nm_, nL, nI_add, nJ_mul, nJ_div, nJ_mod, nI_leI, nI_ltI, nI_eq, Option.bind_some, Option.bind_none, Nat.one_ne_zero, Nat.zero_ne_one, Nat.zero_add, Nat.add_zero, if_true, if_false, not_true_eq_false, not_false_eq_true, show ¬ k ≤ i by omega, gm1 M, ym137 M, xm137 M, dm M, a1, m6, e8, b1]
    · rintro U ⟨f1, f2, f3, f4, f5, f6⟩
      generalize yrF A T sM n k = s at f4 f5 f6
      obtain ⟨M, R, hT, hsM, W, h24⟩ := id f2
      have e8 : U 137 8 = nI (lA A 1 8) := rm1 R (by decide)
      refine ⟨_, ?_, U, rfl, f1, f2⟩
      by_cases c0 : w = 0
      · subst c0
        simp (disch := omega) only [fX3_years_L78_b, nL, nI_add, nJ_mul, nJ_div, nJ_mod, nI_leI, nI_ltI, nI_eq, Option.bind_some, Option.bind_none, Nat.one_ne_zero, Nat.zero_ne_one, Nat.zero_add, Nat.add_zero, if_true, if_false, not_true_eq_false, not_false_eq_true, Nat.le_refl, gm1 M, ym137 M, pu_se e8, gm_I M, f4, xr_s]
      · by_cases c1 : w = 1
        · subst c1
          simp (disch := omega) only [fX3_years_L78_b, nL, nI_add, nJ_mul, nJ_div, nJ_mod, nI_leI, nI_ltI, nI_eq, Option.bind_some, Option.bind_none, Nat.one_ne_zero, Nat.zero_ne_one, Nat.zero_add, Nat.add_zero, if_true, if_false, not_true_eq_false, not_false_eq_true, Nat.le_refl, gm1 M, ym137 M, pu_se e8, gm_I M, f5, xr_s, show ¬ (1 : Nat) = 0 by omega]
        · simp (disch := omega) only [fX3_years_L78_b, nL, nI_add, nJ_mul, nJ_div, nJ_mod, nI_leI, nI_ltI, nI_eq, Option.bind_some, Option.bind_none, Nat.one_ne_zero, Nat.zero_ne_one, Nat.zero_add, Nat.add_zero, if_true, if_false, not_true_eq_false, not_false_eq_true, Nat.le_refl, gm1 M, ym137 M, pu_se e8, gm_I M, c0, c1, xr_s]
  obtain ⟨t, a1, I', rfl, a2⟩ := this
  exact ⟨I', a1, a2⟩
-- TruthBridge's
theorem bK.offY {I' : iF} {L' : lF_} (K : bK q 66 I L A T sM) (h : frY I I') (h' : frH 80 L L') : bK q 66 I' L' A T sM := by
  obtain ⟨X, G, R, hT, hsM, W, h24, hg⟩ := K
  exact ⟨X, G, glR_keep W R (fun a h1 h2 => h.1 a (by omega) (by omega)) (fun a h1 h2 => h' a (by omega)), by rw [h' 65 (by omega)]; exact hT, by rw [h.2 1 (by omega) (by omega) (by omega)]; exact hsM, W, h24, hg⟩
theorem bK_8 (K : bK q 80 I L A T sM) {v : Nat} : bK q 80 I L (lSet A 1 8 v) T sM := by
  obtain ⟨X, G, R, hT, hsM, W, h24, hg⟩ := K
  exact ⟨X, G, glR_SD (glS_cong R.S (fun _ _ _ => rfl) (fun _ _ => rfl) rfl (fun f i h => by rw [lSet_A, if_neg (by have := h.2.2.2.2.2; omega)]) rfl) ⟨R.f1, R.f6, R.D.2.2.1, R.D.2.2.2⟩, hT, hsM, lW_8 W, h24, hg⟩
theorem bK_yr101 {y : yz_t} (Y : xY q I L T sM y) {k n w l i : Nat} (hn : n ≤ 60) (hd : lA y.1 1 6 ≤ 9999) : ∃ I' L', fX0_years_L101 64 (nI k) (nI n) (nI w) (nI l) (some 80) (nI i) (nI 0) (hw q I L) = some (.inl (nI (l + fb_ct (lH (dyN T sM y n).1 6) 256), nI (i + 1), hw q I' L')) ∧ frY I I' ∧ frH 80 L L' ∧ xY q I' L' T sM (dyN T sM y n) := by
  have X := Y.1.1
  have G := Y.1.2.1
  have : ∃ t, fX0_years_L101 64 (nI k) (nI n) (nI w) (nI l) (some 80) (nI i) (nI 0) (hw q I L) = some t ∧ ∃ I' L', t = .inl (nI (l + fb_ct (lH (dyN T sM y n).1 6) 256), nI (i + 1), hw q I' L') ∧ frY I I' ∧ frH 80 L L' ∧ xY q I' L' T sM (dyN T sM y n) := by
    unfold fX0_years_L101
    refine whl_st (α := iF × lF_) (fun j U => (nI j, hw q U.1 U.2)) (fun j U => frY I U.1 ∧ frH 80 L U.2 ∧ xY q U.1 U.2 T sM (dyN T sM y j)) n (a := (I, L)) rfl ⟨frY.rf, frH.rf, Y⟩ ?_ ?_
    · rintro j ⟨U, N⟩ hj ⟨f1, f2, f3⟩
      dsimp only at f1 f2 f3 ⊢
      obtain ⟨U', N', a1, a2, a3, a4⟩ := bK_dayDrawn (L := N) f3 (by rw [dyN_6]; omega)
      exact ⟨(U', N'), by simp (disch := omega) only [fX0_years_L101_b, nL, nI_add, nJ_mul, nJ_div, nJ_mod, nI_leI, nI_ltI, nI_eq, Option.bind_some, Option.bind_none, Nat.one_ne_zero, Nat.zero_ne_one, Nat.zero_add, Nat.add_zero, if_true, if_false, not_true_eq_false, not_false_eq_true, show ¬ n ≤ j by omega, dx X, a1], f1.tr a2, f2.tr a3, a4⟩
    · rintro ⟨U, N⟩ ⟨f1, f2, f3⟩
      dsimp only at f1 f2 f3 ⊢
      have e := bE_heldMany (L := N) G f3.1.2.2.1 f3.1.2.2.2.2.2.1 (who := 6) (Or.inr rfl)
      generalize dyN T sM y n = z at e f3
      exact ⟨_, by simp (disch := omega) only [fX0_years_L101_b, nm_, nL, nI_add, nJ_mul, nJ_div, nJ_mod, nI_leI, nI_ltI, nI_eq, Option.bind_some, Option.bind_none, Nat.one_ne_zero, Nat.zero_ne_one, Nat.zero_add, Nat.add_zero, if_true, if_false, not_true_eq_false, not_false_eq_true, Nat.le_refl, dg G, e, xr_s] <;> rfl, U, N, rfl, f1, f2, f3⟩
  obtain ⟨t, a1, I', L', rfl, a2⟩ := this
  exact ⟨I', L', a1, a2⟩
theorem bK_yr82 (K : bK q 66 I L A T sM) (hl : ph_R q 64 2 = some 66) (hS0 : spS I L A) {k n w : Nat} (hn : n ≤ 60) (hd : lA A 1 6 ≤ 9999) (h8 : lA A 1 8 < 2 ^ 31) (h26 : I 64 26 = nI (lA A 1 8)) (h27 : I 64 27 = nI 0) (h28 : I 64 28 = nI 0) (hk : k ≤ 10) (hw2 : w ≤ 2) : ∃ I' L', fX0_years_L82 64 (nI k) (nI n) (nI w) (nI 0) (some 80) (nI 0) (hw q I L) = some (nI (if w = 0 then (yrF A T sM n k).2.1 else if w = 1 then (yrF A T sM n k).2.2.1 else (yrF A T sM n k).2.2.2), hw q I' L') ∧ frY I I' ∧ frH 80 L L' := by
  have X := K.1
  have : ∃ t, fX0_years_L82 64 (nI k) (nI n) (nI w) (nI 0) (some 80) (nI 0) (hw q I L) = some t ∧ ∃ I' L', t = (nI (if w = 0 then (yrF A T sM n k).2.1 else if w = 1 then (yrF A T sM n k).2.2.1 else (yrF A T sM n k).2.2.2), hw q I' L') ∧ frY I I' ∧ frH 80 L L' := by
    unfold fX0_years_L82
    refine whl_st (α := iF × lF_) (fun i U => (nI (yrF A T sM n i).2.2.2, nI i, hw q U.1 U.2)) (fun i U => frY I U.1 ∧ frH 80 L U.2 ∧ spS U.1 U.2 A ∧ U.1 64 26 = nI (yrF A T sM n i).1 ∧ U.1 64 27 = nI (yrF A T sM n i).2.1 ∧ U.1 64 28 = nI (yrF A T sM n i).2.2.1 ∧ (yrF A T sM n i).1 < 2 ^ 31) k (a := (I, L)) rfl ⟨frY.rf, frH.rf, hS0, h26, h27, h28, h8⟩ ?_ ?_
    · rintro i ⟨U, N⟩ hi ⟨f1, f2, f3, f4, f5, f6, f7⟩
      dsimp only at f1 f2 f3 f4 f5 f6 ⊢
      rw [show yrF A T sM n (i + 1) = yrB A T sM n (yrF A T sM n i) from rfl]
      generalize yrF A T sM n i = s at f4 f5 f6 f7
      have KU := K.offY f1 f2
      obtain ⟨B, hB, hB1, hB2⟩ := f3
      obtain ⟨U1, N1, a1, a2, a3, a4⟩ := bK_stands (L := N) KU X.spare (by decide) (by decide) hB hB1 hB2
      have Y : xY q U1 N1 T sM (lSet A 1 8 s.1, s.2.1, s.2.2.1) := ⟨bK_8 a4, by dsimp only; rw [lSet_8, a2 64 (by omega)]; exact f4, by rw [a2 64 (by omega)]; exact f5, by rw [a2 64 (by omega)]; exact f6, by dsimp only; rw [lSet_8]; exact f7⟩
      obtain ⟨U2, N2, b1, b2, b3, b4⟩ := bK_yr101 (L := N1) Y (k := k) (n := n) (w := w) (l := s.2.2.2) (i := i) hn (by dsimp only; rw [lSet_6]; exact hd)
      have hz := yrZ_8 (A := A) (T := T) (sM := sM) (n := n) f7
      have hF : ∀ f i, stF f i → lA A f i = lA (yrZ A T sM n s).1 f i := fun f i h => by
        unfold yrZ
        rw [dyN_sF h]
        dsimp only
        rw [lSet_A, if_neg (by have := h.2.2.2.2.2; omega)]
      have hP : lP A = lP (yrZ A T sM n s).1 := by
        unfold yrZ
        rw [dyN_P]
        rfl
      unfold yrB
      have e : dyN T sM (lSet A 1 8 s.1, s.2.1, s.2.2.1) n = yrZ A T sM n s := rfl
      rw [e] at b1 b4
      generalize yrZ A T sM n s = z at b1 b4 hz hF hP
      refine ⟨(U2, N2), ?_, f1.tr (a2.Y.tr b2), f2.tr (a3.tr b3), ⟨z.1, b4.1.2.2.1.S, hF, hP⟩, b4.2.1, b4.2.2.1, b4.2.2.2.1, hz⟩
      simp (disch := omega) only [fX0_years_L82_b, nL, nI_add, nJ_mul, nJ_div, nJ_mod, nI_leI, nI_ltI, nI_eq, Option.bind_some, Option.bind_none, Nat.one_ne_zero, Nat.zero_ne_one, Nat.zero_add, Nat.add_zero, if_true, if_false, not_true_eq_false, not_false_eq_true, show ¬ k ≤ i by omega, gx2 X hl, dg X.spare, a1, b1]
    · rintro ⟨U, N⟩ ⟨f1, f2, f3, f4, f5, f6, f7⟩
      dsimp only at f1 f2 f3 f4 f5 f6 ⊢
      generalize yrF A T sM n k = s at f4 f5 f6 f7
      refine ⟨_, ?_, U, N, rfl, f1, f2⟩
      by_cases c0 : w = 0
      · subst c0
        simp (disch := omega) only [fX0_years_L82_b, nL, nI_add, nJ_mul, nJ_div, nJ_mod, nI_leI, nI_ltI, nI_eq, Option.bind_some, Option.bind_none, Nat.one_ne_zero, Nat.zero_ne_one, Nat.zero_add, Nat.add_zero, if_true, if_false, not_true_eq_false, not_false_eq_true, Nat.le_refl, gx_I X, f5, xr_s]
      · by_cases c1 : w = 1
        · subst c1
          simp (disch := omega) only [fX0_years_L82_b, nL, nI_add, nJ_mul, nJ_div, nJ_mod, nI_leI, nI_ltI, nI_eq, Option.bind_some, Option.bind_none, Nat.one_ne_zero, Nat.zero_ne_one, Nat.zero_add, Nat.add_zero, if_true, if_false, not_true_eq_false, not_false_eq_true, Nat.le_refl, gx_I X, f6, xr_s, show ¬ (1 : Nat) = 0 by omega]
        · simp (disch := omega) only [fX0_years_L82_b, nL, nI_add, nJ_mul, nJ_div, nJ_mod, nI_leI, nI_ltI, nI_eq, Option.bind_some, Option.bind_none, Nat.one_ne_zero, Nat.zero_ne_one, Nat.zero_add, Nat.add_zero, if_true, if_false, not_true_eq_false, not_false_eq_true, Nat.le_refl, gx_I X, c0, c1, xr_s]
  obtain ⟨t, a1, I', L', rfl, a2⟩ := this
  exact ⟨I', L', a1, a2⟩
theorem frY.tX {I I' : iF} (h : frY I I') : frX I I' := ⟨fun a ha => h.1 a (by omega) (by omega), fun j _ _ _ _ h1 h2 h3 => h.2 j h1 h2 h3⟩
theorem J_years (J : jK q I L A T sM) (u v w : Int32) : jO q I L T sM (fX0_years 64 u v w) (fX3_years 136 u v w) := by
  obtain ⟨K, B, V⟩ := id J
  obtain ⟨M, RM, hTM, hsM, W, h24⟩ := id K
  have X := B.1
  have m0 := kE_isLandB (L := L) K
  cases c0 : isL A
  · have hn : ph_R q 64 2 = none := by
      rcases B.2.2.2.2.2.2 with ⟨h1, h2, h3⟩ | ⟨h1, h2⟩
      · have := of_decide_eq_false c0; omega
      · exact h1
    exact jO_same J (r := -(nI 1)) (by simp (disch := omega) only [fX0_years, nL, nI_add, nJ_mul, nJ_div, nJ_mod, nI_leI, nI_ltI, nI_eq, Option.bind_some, Option.bind_none, Nat.one_ne_zero, Nat.zero_ne_one, Nat.zero_add, Nat.add_zero, if_true, if_false, not_true_eq_false, not_false_eq_true, gx2n X hn, nq_0]) (by simp (disch := omega) only [fX3_years, nL, nI_add, nJ_mul, nJ_div, nJ_mod, nI_leI, nI_ltI, nI_eq, Option.bind_some, Option.bind_none, Nat.one_ne_zero, Nat.zero_ne_one, Nat.zero_add, Nat.add_zero, if_true, if_false, not_true_eq_false, not_false_eq_true, dm M, m0, c0, Bool.false_eq_true])
  · have h0 : 0 < lA A 1 0 := of_decide_eq_true c0
    obtain ⟨KB, hl⟩ := B.K h0
    have x1 := fun g => xin_lit (v := u) (lo := 1) (hi := 10) (l := 1) (k := 10) (by decide +kernel) (by decide +kernel) g
    have m1 := fun g => in_lit (v := u) (lo := 1) (hi := 10) (l := 1) (k := 10) (by decide +kernel) (by decide +kernel) g
    have x2 := fun g => xin_lit (v := v) (lo := 1) (hi := 60) (l := 1) (k := 60) (by decide +kernel) (by decide +kernel) g
    have m2 := fun g => in_lit (v := v) (lo := 1) (hi := 60) (l := 1) (k := 60) (by decide +kernel) (by decide +kernel) g
    have x3 := fun g => xin_lit (v := w) (lo := 0) (hi := 2) (l := 0) (k := 2) (by decide +kernel) (by decide +kernel) g
    have m3 := fun g => in_lit (v := w) (lo := 0) (hi := 2) (l := 0) (k := 2) (by decide +kernel) (by decide +kernel) g
    cases c1 : inR u 1 10
    · exact jO_same J (r := -(nI 1)) (by simp (disch := omega) only [fX0_years, nL, nI_add, nJ_mul, nJ_div, nJ_mod, nI_leI, nI_ltI, nI_eq, Option.bind_some, Option.bind_none, Nat.one_ne_zero, Nat.zero_ne_one, Nat.zero_add, Nat.add_zero, if_true, if_false, not_true_eq_false, not_false_eq_true, gx2 X hl, nq_66, x1, c1, Bool.false_eq_true]) (by simp (disch := omega) only [fX3_years, nL, nI_add, nJ_mul, nJ_div, nJ_mod, nI_leI, nI_ltI, nI_eq, Option.bind_some, Option.bind_none, Nat.one_ne_zero, Nat.zero_ne_one, Nat.zero_add, Nat.add_zero, if_true, if_false, not_true_eq_false, not_false_eq_true, dm M, m0, c0, m1, c1, Bool.false_eq_true])
    · cases c2 : inR v 1 60
      · exact jO_same J (r := -(nI 1)) (by simp (disch := omega) only [fX0_years, nL, nI_add, nJ_mul, nJ_div, nJ_mod, nI_leI, nI_ltI, nI_eq, Option.bind_some, Option.bind_none, Nat.one_ne_zero, Nat.zero_ne_one, Nat.zero_add, Nat.add_zero, if_true, if_false, not_true_eq_false, not_false_eq_true, gx2 X hl, nq_66, x1, c1, x2, c2, Bool.false_eq_true]) (by simp (disch := omega) only [fX3_years, nL, nI_add, nJ_mul, nJ_div, nJ_mod, nI_leI, nI_ltI, nI_eq, Option.bind_some, Option.bind_none, Nat.one_ne_zero, Nat.zero_ne_one, Nat.zero_add, Nat.add_zero, if_true, if_false, not_true_eq_false, not_false_eq_true, dm M, m0, c0, m1, c1, m2, c2, Bool.false_eq_true])
      · cases c3 : inR w 0 2
        · exact jO_same J (r := -(nI 1)) (by simp (disch := omega) only [fX0_years, nL, nI_add, nJ_mul, nJ_div, nJ_mod, nI_leI, nI_ltI, nI_eq, Option.bind_some, Option.bind_none, Nat.one_ne_zero, Nat.zero_ne_one, Nat.zero_add, Nat.add_zero, if_true, if_false, not_true_eq_false, not_false_eq_true, gx2 X hl, nq_66, x1, c1, x2, c2, x3, c3, Bool.false_eq_true]) (by simp (disch := omega) only [fX3_years, nL, nI_add, nJ_mul, nJ_div, nJ_mod, nI_leI, nI_ltI, nI_eq, Option.bind_some, Option.bind_none, Nat.one_ne_zero, Nat.zero_ne_one, Nat.zero_add, Nat.add_zero, if_true, if_false, not_true_eq_false, not_false_eq_true, dm M, m0, c0, m1, c1, m2, c2, m3, c3, Bool.false_eq_true])
        · obtain ⟨k, -, hk, rfl⟩ := inR_of c1 (by omega)
          obtain ⟨n, -, hn, rfl⟩ := inR_of c2 (by omega)
          obtain ⟨y, -, hy, rfl⟩ := inR_of c3 (by omega)
          have h7 : I 64 7 = nI (lA A 1 8) := B.2.2.2.1
          have fa : frY I (ph_u (ph_u (ph_u I 64 26 (nI (lA A 1 8))) 64 27 (nI 0)) 64 28 (nI 0)) := ((frY.rf.up (by omega)).up (by omega)).up (by omega)
          have KA := KB.offY fa (frH.rf (L := L))
          obtain ⟨I2, L2, b1, b2, b3, b4⟩ := bK_copies (L := L) KA X.spare (by decide) (by decide)
          have KB2 := KA.off (g' := 80) (by decide) (by decide) b2 b3
          obtain ⟨I3, L3, d1, d2, d3⟩ := bK_yr82 (L := L2) KB2 hl ⟨A, b4.2.2.1.S, fun _ _ _ => rfl, rfl⟩ (k := k) (n := n) (w := y) hn V.1.1 V.1.2 (by rw [b2 64 (by omega), pu_nk (by decide), pu_nk (by decide), pu_eq]) (by rw [b2 64 (by omega), pu_nk (by decide), pu_eq]) (by rw [b2 64 (by omega), pu_eq]) hk hy
          have fY := (fa.tr b2.Y).tr d2
          have fX : frX I I3 := fY.tX
          have fL : frXL L L3 := (b3.X (Or.inr rfl)).tr (d3.X (Or.inr rfl))
          have KB3 := KB2.offY d2 d3
          have K3 := (K.X fX).keep (I' := ph_u (ph_u I3 136 71 (nI 0)) 136 72 (nI 0)) (fun c hc => by rw [pu_ne (by omega), pu_ne (by omega)]) (by rw [pu_nk (by decide), pu_nk (by decide)]) (by rw [pu_nk (by decide), pu_nk (by decide)])
          have fT : frT I3 (ph_u (ph_u I3 136 71 (nI 0)) 136 72 (nI 0)) := (frT.rf.up (by omega)).up (by omega)
          obtain ⟨J2, f1, f2, f3, f4, f5, f6⟩ := kE_keepsAll (L := L3) K3
          obtain ⟨J3, g1, g2, g3⟩ := kE_yr78 (L := L3) f6 f5 (k := k) (n := n) (w := y) hn V.1.1 V.1.2 (by rw [f4 71 (by omega) (by omega), pu_nk (by decide), pu_eq]) (by rw [f4 72 (by omega) (by omega), pu_eq]) hk hy
          have m0 := kE_isLandB (L := L3) (K.X fX)
          have e8 : I3 137 8 = nI (lA A 1 8) := rm1 (K.X fX).2.1 (by decide)
          refine jO_mk (I1 := I3) (L1 := L3) (r := nI (if y = 0 then (yrF A T sM n k).2.1 else if y = 1 then (yrF A T sM n k).2.2.1 else (yrF A T sM n k).2.2.2)) ?_ fX fL (KB3.toL hl h0 (by rw [fY.2 7 (by omega) (by omega) (by omega)]; exact h7)) V ⟨J3, L3, ?_, (fT.tr f2).tr g2, frTL.rf, g3⟩
          · generalize (if y = 0 then (yrF A T sM n k).2.1 else if y = 1 then (yrF A T sM n k).2.2.1 else (yrF A T sM n k).2.2.2) = r at d1
            simp (disch := omega) only [fX0_years, nL, nI_add, nJ_mul, nJ_div, nJ_mod, nI_leI, nI_ltI, nI_eq, Option.bind_some, Option.bind_none, Nat.one_ne_zero, Nat.zero_ne_one, Nat.zero_add, Nat.add_zero, if_true, if_false, not_true_eq_false, not_false_eq_true, gx2 X hl, nq_66, x1, c1, x2, c2, x3, c3, gx_I X, sx_I X, h7, gx4 X, dg X.spare, b1, d1]
          · generalize (if y = 0 then (yrF A T sM n k).2.1 else if y = 1 then (yrF A T sM n k).2.2.1 else (yrF A T sM n k).2.2.2) = r at g1
            simp (disch := omega) only [fX3_years, nL, nI_add, nJ_mul, nJ_div, nJ_mod, nI_leI, nI_ltI, nI_eq, Option.bind_some, Option.bind_none, Nat.one_ne_zero, Nat.zero_ne_one, Nat.zero_add, Nat.add_zero, if_true, if_false, not_true_eq_false, not_false_eq_true, dm M, m0, c0, m1, c1, m2, c2, m3, c3, gm1 M, xm137 M, e8, sm_I M, f1, g1]
end JMM
