/-! P2 JR: both answer: run, by a rule's sums -/
def wdS (A : ld_t) (T : Nat → Nat → Bool) (p s k : Nat) : Int64 := if k = 0 then (nI p).toInt64 else if k = 1 then (nI (lA A 2 p)).toInt64 else if k = 2 then (nI (lA A 3 p)).toInt64 else if k = 3 then (nI s).toInt64 else if k = 4 then (if kn_ (lH A p) (T s) then 1 else 0) else if k = 5 then (nI (gn_ (lH A 6) (T s))).toInt64 else if k = 6 then (nI (fb_ct (lH A 6) 256)).toInt64 else if k = 7 then (nI (a_oth A p)).toInt64 else if k = 8 then (nI (lA A 1 6)).toInt64 else (nI (lA A 4 p)).toInt64
/-- a sum asks of ten numbers alone -/
def fOK (F : (Nat → Int64) → Int64) : Prop := ∀ u v : Nat → Int64, (∀ k, k < 10 → u k = v k) → F u = F v
def mRq (q : ph_t) (I : iF) (r : Nat) (F : (Nat → Int64) → Int64) : Prop := ∀ (I' : iF) (L' : lF_), (∀ a, 164 ≤ a → a ≤ 169 → I' a = I a) → ∃ L'', fX3_wanted 136 (nI r) (hw q I' L') = some (F (L' 176), hw q I' L'') ∧ ∀ a, a ≠ 177 → L'' a = L' a
def bRq (q : ph_t) (I : iF) (L : lF_) (o : Nat) (F : (Nat → Int64) → Int64) : Prop := ph_T q o = 6 ∧ ∀ (I' : iF) (L' : lF_), (∀ a, 190 ≤ a → 6 ≤ ph_T q a → ph_T q a ≤ 19 → I' a = I a ∧ L' a = L a) → fX9_sumFor o (some 128) (hw q I' L') = some (F (L' 128), hw q I' L')
noncomputable def sbB (A : ld_t) (T : Nat → Nat → Bool) (F : (Nat → Int64) → Int64) (p s : Nat) (z : Option Nat × Int64) : Option Nat × Int64 := if nI 0 < lc_ (F (wdS A T p s)) z.2 then (some s, F (wdS A T p s)) else z
noncomputable def sbF (A : ld_t) (T : Nat → Nat → Bool) (F : (Nat → Int64) → Int64) (p n : Nat) : Option Nat × Int64 := fo_ (sbB A T F p) (none, 0) n
def noE (o : Option Nat) : Int32 := o.elim (-(nI 1)) nI
theorem sbB_1 {A : ld_t} {T : Nat → Nat → Bool} {F : (Nat → Int64) → Int64} {p s : Nat} {z : Option Nat × Int64} (h : nI 0 < lc_ (F (wdS A T p s)) z.2) : sbB A T F p s z = (some s, F (wdS A T p s)) := if_pos h
theorem sbB_0 {A : ld_t} {T : Nat → Nat → Bool} {F : (Nat → Int64) → Int64} {p s : Nat} {z : Option Nat × Int64} (h : ¬ nI 0 < lc_ (F (wdS A T p s)) z.2) : sbB A T F p s z = z := if_neg h
theorem sbF_lt {A : ld_t} {T : Nat → Nat → Bool} {F : (Nat → Int64) → Int64} {p : Nat} : ∀ n k, (sbF A T F p n).1 = some k → k < n
  | 0, k, h => by cases h
  | n + 1, k, h => by
    have ih := sbF_lt (A := A) (T := T) (F := F) (p := p) n k
    have h : (sbB A T F p n (sbF A T F p n)).1 = some k := h
    by_cases c : nI 0 < lc_ (F (wdS A T p n)) (sbF A T F p n).2
    · rw [sbB_1 c] at h
      cases h
      omega
    · rw [sbB_0 c] at h
      have := ih h
      omega
noncomputable def rbB (T : Nat → Nat → Bool) (F : (Nat → Int64) → Int64) (sM p : Nat) (z : ld_t × Nat) : ld_t × Nat := if lA z.1 6 p = 0 then (sbF z.1 T F p sM).1.elim z (fun s => ((a_cr z.1 T p s).2, z.2 + if (a_cr z.1 T p s).1 = 3 then 1 else 0)) else z
noncomputable def rbP (T : Nat → Nat → Bool) (F : (Nat → Int64) → Int64) (sM : Nat) (A : ld_t) (n : Nat) : ld_t × Nat := fo_ (rbB T F sM) (A, 0) n
noncomputable def rbD (T : Nat → Nat → Bool) (F : (Nat → Int64) → Int64) (sM : Nat) (A : ld_t) : ld_t × Nat := (a_day (rbP T F sM A (lA A 1 2)).1, (rbP T F sM A (lA A 1 2)).2)
noncomputable def rbN (T : Nat → Nat → Bool) (F : (Nat → Int64) → Int64) (sM : Nat) (A : ld_t) (n : Nat) : ld_t × Nat := fo_ (fun _ z => ((rbD T F sM z.1).1, z.2 + (rbD T F sM z.1).2)) (A, 0) n
theorem rbB_0 {T : Nat → Nat → Bool} {F : (Nat → Int64) → Int64} {sM p : Nat} {z : ld_t × Nat} (h : ¬ lA z.1 6 p = 0) : rbB T F sM p z = z := if_neg h
theorem rbB_n {T : Nat → Nat → Bool} {F : (Nat → Int64) → Int64} {sM p : Nat} {z : ld_t × Nat} (h : lA z.1 6 p = 0) (h2 : (sbF z.1 T F p sM).1 = none) : rbB T F sM p z = z := by
  unfold rbB
  rw [if_pos h, h2]
  rfl
theorem rbB_s {T : Nat → Nat → Bool} {F : (Nat → Int64) → Int64} {sM p s : Nat} {z : ld_t × Nat} (h : lA z.1 6 p = 0) (h2 : (sbF z.1 T F p sM).1 = some s) : rbB T F sM p z = ((a_cr z.1 T p s).2, z.2 + if (a_cr z.1 T p s).1 = 3 then 1 else 0) := by
  unfold rbB
  rw [if_pos h, h2]
  rfl
theorem rbB_st {T : Nat → Nat → Bool} {F : (Nat → Int64) → Int64} {sM p : Nat} {z : ld_t × Nat} {f i : Nat} (h : f = 0 ∨ f = 1) : lA (rbB T F sM p z).1 f i = lA z.1 f i := by
  by_cases c : lA z.1 6 p = 0
  · cases e : (sbF z.1 T F p sM).1 with
    | none => rw [rbB_n c e]
    | some s =>
      rw [rbB_s c e]
      exact cr_st h
  · rw [rbB_0 c]
theorem rbP_st {T : Nat → Nat → Bool} {F : (Nat → Int64) → Int64} {sM : Nat} {A : ld_t} {f i : Nat} (h : f = 0 ∨ f = 1) : ∀ n, lA (rbP T F sM A n).1 f i = lA A f i
  | 0 => rfl
  | n + 1 => (rbB_st h).trans (rbP_st h n)
theorem rbD_st {T : Nat → Nat → Bool} {F : (Nat → Int64) → Int64} {sM : Nat} {A : ld_t} {f i : Nat} (h : f = 0 ∨ (f = 1 ∧ i ≠ 1 ∧ i ≠ 6)) : lA (rbD T F sM A).1 f i = lA A f i := by
  show lA (a_day _) f i = _
  rw [day_st h, rbP_st (by omega)]
theorem rbD_6 {T : Nat → Nat → Bool} {F : (Nat → Int64) → Int64} {sM : Nat} {A : ld_t} : lA (rbD T F sM A).1 1 6 = lA A 1 6 + 1 := by
  have : lA (rbD T F sM A).1 1 6 = lA (rbP T F sM A (lA A 1 2)).1 1 6 + 1 := a_turns_A (by omega) _
  rw [this, rbP_st (by omega)]
theorem rbN_st {T : Nat → Nat → Bool} {F : (Nat → Int64) → Int64} {sM : Nat} {A : ld_t} {f i : Nat} (h : f = 0 ∨ (f = 1 ∧ i ≠ 1 ∧ i ≠ 6)) : ∀ n, lA (rbN T F sM A n).1 f i = lA A f i
  | 0 => rfl
  | n + 1 => (rbD_st h).trans (rbN_st h n)
theorem rbN_6 {T : Nat → Nat → Bool} {F : (Nat → Int64) → Int64} {sM : Nat} {A : ld_t} : ∀ n, lA (rbN T F sM A n).1 1 6 = lA A 1 6 + n
  | 0 => rfl
  | n + 1 => by
    have h : lA (rbN T F sM A (n + 1)).1 1 6 = lA (rbN T F sM A n).1 1 6 + 1 := rbD_6
    rw [h, rbN_6 n]
    omega
section JRR
variable {q : ph_t} {I : iF} {L : lF_} {A : ld_t} {T : Nat → Nat → Bool} {sM : Nat} {F : (Nat → Int64) → Int64}
/-- ten numbers are laid -/
theorem wd_rows {L : lF_} {m : Nat} {x0 x1 x2 x3 x4 x5 x6 x7 x8 x9 : Int64} : ∀ k, k < 10 → (ph_u (ph_u (ph_u (ph_u (ph_u (ph_u (ph_u (ph_u (ph_u (ph_u L m 0 x0) m 1 x1) m 2 x2) m 3 x3) m 4 x4) m 5 x5) m 6 x6) m 7 x7) m 8 x8) m 9 x9) m k = if k = 0 then x0 else if k = 1 then x1 else if k = 2 then x2 else if k = 3 then x3 else if k = 4 then x4 else if k = 5 then x5 else if k = 6 then x6 else if k = 7 then x7 else if k = 8 then x8 else x9 := fun k hk => by
  have : k = 0 ∨ k = 1 ∨ k = 2 ∨ k = 3 ∨ k = 4 ∨ k = 5 ∨ k = 6 ∨ k = 7 ∨ k = 8 ∨ k = 9 := by omega
  rcases this with rfl | rfl | rfl | rfl | rfl | rfl | rfl | rfl | rfl | rfl <;> simp [pu_at]
theorem kE_asks (K : mK q I A T sM) {p s : Nat} (hp : p < lA A 1 2) (hs : s < sM) : ∃ L', fX3_asks 136 (nI p) (nI s) (hw q I L) = some ((), hw q I L') ∧ (∀ a, a ≠ 176 → L' a = L a) ∧ ∀ k, k < 10 → L' 176 k = wdS A T p s k := by
  obtain ⟨M, R, hT, hsM, W, h24⟩ := id K
  have w2 := W.1.2.2.1
  have e1 := fun N => mE_isKnown (L := N) M R hT W (who := p) (Or.inl hp) hs h24
  have e2 := fun N => mE_gainOf (L := N) M R hT W hs h24
  have e3 := fun N => mE_manyHeld (L := N) M R (who := 6) (Or.inr rfl) W
  have e4 := fun N => kE_others (L := N) K hp
  refine ⟨ph_u (ph_u (ph_u (ph_u (ph_u (ph_u (ph_u (ph_u (ph_u (ph_u L 176 0 (nI p).toInt64) 176 1 (nI (lA A 2 p)).toInt64) 176 2 (nI (lA A 3 p)).toInt64) 176 3 (nI s).toInt64) 176 4 (if kn_ (lH A p) (T s) then 1 else 0)) 176 5 (nI (gn_ (lH A 6) (T s))).toInt64) 176 6 (nI (fb_ct (lH A 6) 256)).toInt64) 176 7 (nI (a_oth A p)).toInt64) 176 8 (nI (lA A 1 6)).toInt64) 176 9 (nI (lA A 4 p)).toInt64, ?_, fun a ha => ?_, wd_rows⟩
  · cases c : kn_ (lH A p) (T s)
    · simp (disch := omega) only [fX3_asks, fX3_asks_L61, nL, nI_add, nJ_mul, nJ_div, nJ_mod, nI_leI, nI_ltI, nI_eq, Option.bind_some, Option.bind_none, Nat.one_ne_zero, Nat.zero_ne_one, Nat.zero_add, Nat.add_zero, if_true, if_false, not_true_eq_false, not_false_eq_true, gm54 M, ym176 M, gm2 M, xm138 M, rm2 R, gm3 M, xm139 M, rm3 R, dm M, e1, c, e2, e3, e4, gm1 M, xm137 M, rm1 R, gm4 M, xm140 M, rm4 R, Bool.false_eq_true]
    · simp (disch := omega) only [fX3_asks, fX3_asks_L61, nL, nI_add, nJ_mul, nJ_div, nJ_mod, nI_leI, nI_ltI, nI_eq, Option.bind_some, Option.bind_none, Nat.one_ne_zero, Nat.zero_ne_one, Nat.zero_add, Nat.add_zero, if_true, if_false, not_true_eq_false, not_false_eq_true, gm54 M, ym176 M, gm2 M, xm138 M, rm2 R, gm3 M, xm139 M, rm3 R, dm M, e1, c, e2, e3, e4, gm1 M, xm137 M, rm1 R, gm4 M, xm140 M, rm4 R]
  · simp only [pu_ne ha]
theorem kE_sayingBy (K : mK q I A T sM) (hF : fOK F) {r : Nat} (hR : mRq q I r F) {p : Nat} (hp : p < lA A 1 2) : ∃ L', fX3_sayingBy 136 (nI r) (nI p) (hw q I L) = some (noE (sbF A T F p sM).1, hw q I L') ∧ frTL L L' := by
  obtain ⟨M, R, hT, hsM, W, h24⟩ := id K
  have : ∃ t, fX3_sayingBy 136 (nI r) (nI p) (hw q I L) = some t ∧ ∃ L', t = (noE (sbF A T F p sM).1, hw q I L') ∧ frTL L L' := by
    unfold fX3_sayingBy fX3_sayingBy_L8
    refine whl_st (α := lF_) (fun s U => (noE (sbF A T F p s).1, (sbF A T F p s).2, nI s, hw q I U)) (fun s U => frTL L U) sM (a := L) rfl frTL.rf ?_ ?_
    · rintro s U hs f1
      rw [show sbF A T F p (s + 1) = sbB A T F p s (sbF A T F p s) from rfl]
      generalize sbF A T F p s = z
      obtain ⟨U1, a1, a2, a3⟩ := kE_asks (L := U) K hp hs
      obtain ⟨U2, b1, b2⟩ := hR I U1 (fun _ _ _ => rfl)
      rw [hF _ _ a3] at b1
      refine ⟨U2, ?_, fun a h1 h2 => by rw [b2 a h2, a2 a h1]; exact f1 a h1 h2⟩
      by_cases c : nI 0 < lc_ (F (wdS A T p s)) z.2
      · rw [sbB_1 c]
        have c' : ¬ lc_ (F (wdS A T p s)) z.2 ≤ nI 0 := Int32.not_le.mpr c
        simp (disch := omega) only [fX3_sayingBy_L8_b, fX3_sayingBy_L46, nL, nI_add, nJ_mul, nJ_div, nJ_mod, nI_leI, nI_ltI, nI_eq, Option.bind_some, Option.bind_none, Nat.one_ne_zero, Nat.zero_ne_one, Nat.zero_add, Nat.add_zero, if_true, if_false, not_true_eq_false, not_false_eq_true, gm_I M, hsM, show ¬ sM ≤ s by omega, dm M, a1, b1, c']
        rfl
      · rw [sbB_0 c]
        have c' : lc_ (F (wdS A T p s)) z.2 ≤ nI 0 := Int32.not_lt.mp c
        simp (disch := omega) only [fX3_sayingBy_L8_b, fX3_sayingBy_L46, nL, nI_add, nJ_mul, nJ_div, nJ_mod, nI_leI, nI_ltI, nI_eq, Option.bind_some, Option.bind_none, Nat.one_ne_zero, Nat.zero_ne_one, Nat.zero_add, Nat.add_zero, if_true, if_false, not_true_eq_false, not_false_eq_true, gm_I M, hsM, show ¬ sM ≤ s by omega, dm M, a1, b1, c']
    · rintro U f1
      exact ⟨_, by simp (disch := omega) only [fX3_sayingBy_L8_b, nL, nI_add, nJ_mul, nJ_div, nJ_mod, nI_leI, nI_ltI, nI_eq, Option.bind_some, Option.bind_none, Nat.one_ne_zero, Nat.zero_ne_one, Nat.zero_add, Nat.add_zero, if_true, if_false, not_true_eq_false, not_false_eq_true, gm_I M, hsM, Nat.le_refl, xr_s] <;> rfl, U, rfl, f1⟩
  obtain ⟨t, a1, L', rfl, a2⟩ := this
  exact ⟨L', a1, a2⟩
theorem bK_wordsOf (K : bK q 66 I L A T sM) (hl : ph_R q 64 2 = some 66) {p s : Nat} (hp : p < lA A 1 2) (hs : s < sM) : ∃ L', fX0_wordsOf 64 (nI p) (nI s) (hw q I L) = some (some 128, hw q I L') ∧ (∀ a, a ≠ 128 → L' a = L a) ∧ ∀ k, k < 10 → L' 128 k = wdS A T p s k := by
  obtain ⟨X, G, R, hT, hsM, W, h24, hg⟩ := id K
  have w2 := W.1.2.2.1
  have KN : ∀ N : lF_, (∀ a, a ≠ 128 → N a = L a) → bK q 66 I N A T sM := fun N h => ⟨X, G, glR_keep W R (fun _ _ _ => rfl) (fun a h1 h2 => h a (by omega)), by rw [h 65 (by decide)]; exact hT, hsM, W, h24, hg⟩
  have e1 := fun N h => bE_isKnown (L := N) X G (KN N h).2.2.1 (KN N h).2.2.2.1 W (who := p) (Or.inl hp) hs h24
  have e2 := fun N h => bE_gainOf (L := N) X G (KN N h).2.2.1 (KN N h).2.2.2.1 W hs h24
  have e3 := fun N h => bE_heldMany (L := N) G (KN N h).2.2.1 W (who := 6) (Or.inr rfl)
  have e4 := fun N h => bK_others (L := N) (KN N h) hp
  refine ⟨ph_u (ph_u (ph_u (ph_u (ph_u (ph_u (ph_u (ph_u (ph_u (ph_u L 128 0 (nI p).toInt64) 128 1 (nI (lA A 2 p)).toInt64) 128 2 (nI (lA A 3 p)).toInt64) 128 3 (nI s).toInt64) 128 4 (if kn_ (lH A p) (T s) then 1 else 0)) 128 5 (nI (gn_ (lH A 6) (T s))).toInt64) 128 6 (nI (fb_ct (lH A 6) 256)).toInt64) 128 7 (nI (a_oth A p)).toInt64) 128 8 (nI (lA A 1 6)).toInt64) 128 9 (nI (lA A 4 p)).toInt64, ?_, fun a ha => ?_, wd_rows⟩
  · have k1 := e1 (ph_u (ph_u (ph_u (ph_u L 128 0 (nI p).toInt64) 128 1 (nI (lA A 2 p)).toInt64) 128 2 (nI (lA A 3 p)).toInt64) 128 3 (nI s).toInt64) (fun a ha => by simp only [pu_ne ha])
    have k2 := fun x => e2 (ph_u (ph_u (ph_u (ph_u (ph_u L 128 0 (nI p).toInt64) 128 1 (nI (lA A 2 p)).toInt64) 128 2 (nI (lA A 3 p)).toInt64) 128 3 (nI s).toInt64) 128 4 x) (fun a ha => by simp only [pu_ne ha])
    have k3 := fun x => e3 (ph_u (ph_u (ph_u (ph_u (ph_u (ph_u L 128 0 (nI p).toInt64) 128 1 (nI (lA A 2 p)).toInt64) 128 2 (nI (lA A 3 p)).toInt64) 128 3 (nI s).toInt64) 128 4 x) 128 5 (nI (gn_ (lH A 6) (T s))).toInt64) (fun a ha => by simp only [pu_ne ha])
    have k4 := fun x => e4 (ph_u (ph_u (ph_u (ph_u (ph_u (ph_u (ph_u L 128 0 (nI p).toInt64) 128 1 (nI (lA A 2 p)).toInt64) 128 2 (nI (lA A 3 p)).toInt64) 128 3 (nI s).toInt64) 128 4 x) 128 5 (nI (gn_ (lH A 6) (T s))).toInt64) 128 6 (nI (fb_ct (lH A 6) 256)).toInt64) (fun a ha => by simp only [pu_ne ha])
    cases c : kn_ (lH A p) (T s)
    · rw [c] at k1
      simp (disch := omega) only [fX0_wordsOf, fX0_wordsOf_L71, nL, nI_add, nJ_mul, nJ_div, nJ_mod, nI_leI, nI_ltI, nI_eq, Option.bind_some, Option.bind_none, Nat.one_ne_zero, Nat.zero_ne_one, Nat.zero_add, Nat.add_zero, if_true, if_false, not_true_eq_false, not_false_eq_true, gx16 X, yx128 X, gx2 X hl, gl_I G, gl9 G, xl9 G, rl1 R, gl10 G, xl10 G, rl2 R, dx X, dl G, k1, k2, k3, k4, R.f6, gl11 G, xl11 G, rl3 R, Bool.false_eq_true]
    · rw [c] at k1
      simp (disch := omega) only [fX0_wordsOf, fX0_wordsOf_L71, nL, nI_add, nJ_mul, nJ_div, nJ_mod, nI_leI, nI_ltI, nI_eq, Option.bind_some, Option.bind_none, Nat.one_ne_zero, Nat.zero_ne_one, Nat.zero_add, Nat.add_zero, if_true, if_false, not_true_eq_false, not_false_eq_true, gx16 X, yx128 X, gx2 X hl, gl_I G, gl9 G, xl9 G, rl1 R, gl10 G, xl10 G, rl2 R, dx X, dl G, k1, k2, k3, k4, R.f6, gl11 G, xl11 G, rl3 R]
  · simp only [pu_ne ha]
theorem bK_sayingBy (K : bK q 66 I L A T sM) (hl : ph_R q 64 2 = some 66) (hF : fOK F) {o : Nat} (hR : bRq q I L o F) {p : Nat} (hp : p < lA A 1 2) : ∃ L', fX0_sayingBy 64 (some o) (nI p) (hw q I L) = some (noE (sbF A T F p sM).1, hw q I L') ∧ ∀ a, a ≠ 128 → L' a = L a := by
  obtain ⟨X, G, R, hT, hsM, W, h24, hg⟩ := id K
  have KN : ∀ N : lF_, (∀ a, a ≠ 128 → N a = L a) → bK q 66 I N A T sM := fun N h => ⟨X, G, glR_keep W R (fun _ _ _ => rfl) (fun a h1 h2 => h a (by omega)), by rw [h 65 (by decide)]; exact hT, hsM, W, h24, hg⟩
  have d6 : ∀ N : lF_, dv_ (hw q I N) (some o) 6 = some o := fun N => if_pos hR.1
  have : ∃ t, fX0_sayingBy 64 (some o) (nI p) (hw q I L) = some t ∧ ∃ L', t = (noE (sbF A T F p sM).1, hw q I L') ∧ ∀ a, a ≠ 128 → L' a = L a := by
    unfold fX0_sayingBy fX0_sayingBy_L8
    refine whl_st (α := lF_) (fun s U => (noE (sbF A T F p s).1, (sbF A T F p s).2, nI s, hw q I U)) (fun s U => ∀ a, a ≠ 128 → U a = L a) sM (a := L) rfl (fun _ _ => rfl) ?_ ?_
    · rintro s U hs f1
      rw [show sbF A T F p (s + 1) = sbB A T F p s (sbF A T F p s) from rfl]
      generalize sbF A T F p s = z
      obtain ⟨U1, a1, a2, a3⟩ := bK_wordsOf (L := U) (KN U f1) hl hp hs
      have b1 := hR.2 I U1 (fun a ha _ _ => ⟨rfl, by rw [a2 a (by omega), f1 a (by omega)]⟩)
      rw [hF _ _ a3] at b1
      refine ⟨U1, ?_, fun a h1 => by rw [a2 a h1]; exact f1 a h1⟩
      by_cases c : nI 0 < lc_ (F (wdS A T p s)) z.2
      · rw [sbB_1 c]
        simp (disch := omega) only [fX0_sayingBy_L8_b, fX0_sayingBy_L48, nL, nI_add, nJ_mul, nJ_div, nJ_mod, nI_leI, nI_ltI, nI_eq, Option.bind_some, Option.bind_none, Nat.one_ne_zero, Nat.zero_ne_one, Nat.zero_add, Nat.add_zero, if_true, if_false, not_true_eq_false, not_false_eq_true, gx_I X, hsM, show ¬ sM ≤ s by omega, dx X, a1, d6, b1, c]
        rfl
      · rw [sbB_0 c]
        simp (disch := omega) only [fX0_sayingBy_L8_b, fX0_sayingBy_L48, nL, nI_add, nJ_mul, nJ_div, nJ_mod, nI_leI, nI_ltI, nI_eq, Option.bind_some, Option.bind_none, Nat.one_ne_zero, Nat.zero_ne_one, Nat.zero_add, Nat.add_zero, if_true, if_false, not_true_eq_false, not_false_eq_true, gx_I X, hsM, show ¬ sM ≤ s by omega, dx X, a1, d6, b1, c]
    · rintro U f1
      exact ⟨_, by simp (disch := omega) only [fX0_sayingBy_L8_b, nL, nI_add, nJ_mul, nJ_div, nJ_mod, nI_leI, nI_ltI, nI_eq, Option.bind_some, Option.bind_none, Nat.one_ne_zero, Nat.zero_ne_one, Nat.zero_add, Nat.add_zero, if_true, if_false, not_true_eq_false, not_false_eq_true, gx_I X, hsM, Nat.le_refl, xr_s] <;> rfl, U, rfl, f1⟩
  obtain ⟨t, a1, L', rfl, a2⟩ := this
  exact ⟨L', a1, a2⟩
end JRR
