/-! P2 JF: both answer: when, the fewest -/
def trT (A : ld_t) (d t x : Nat) : Nat := if lA A 12 t = d then x ^^^ 2 ^ lA A 11 t else x
def trn (A : ld_t) (d x : Nat) : Nat := if lA A 1 6 < d then fo_ (trT A d) x (lA A 1 5) else x
def trW (A : ld_t) (i : Nat) : Nat := fo_ (fun i x => trn A (lA A 1 6 + i) x) (lA A 1 1) i
theorem trT_lt {A : ld_t} (W : lW A) {d t x : Nat} (ht : t < lA A 1 5) (hx : x < 2 ^ lA A 1 0) : trT A d t x < 2 ^ lA A 1 0 := by
  unfold trT
  split
  · exact xor_lt8 hx (W.2.2.2.2.1 t ht).1
  · exact hx
theorem trF_lt {A : ld_t} (W : lW A) {d x : Nat} (hx : x < 2 ^ lA A 1 0) (n : Nat) (hn : n ≤ lA A 1 5) : fo_ (trT A d) x n < 2 ^ lA A 1 0 :=
  fo_ind (P := fun y => y < 2 ^ lA A 1 0) hx n (fun i y hi hy => trT_lt W (by omega) hy)
theorem trn_lt {A : ld_t} (W : lW A) {d x : Nat} (hx : x < 2 ^ lA A 1 0) : trn A d x < 2 ^ lA A 1 0 := by
  unfold trn
  split
  · exact trF_lt W hx _ (Nat.le_refl _)
  · exact hx
theorem trW_lt {A : ld_t} (W : lW A) (n : Nat) : trW A n < 2 ^ lA A 1 0 := fo_ind (P := fun y => y < 2 ^ lA A 1 0) W.1.2.1 n (fun i y _ hy => trn_lt W hy)
theorem trW_s {A : ld_t} (i : Nat) : trW A (i + 1) = trn A (lA A 1 6 + i) (trW A i) := rfl
section JF
variable {q : ph_t} {I : iF} {L : lF_} {A : ld_t} {T : Nat → Nat → Bool} {sM : Nat}
theorem kE_when81 (K : mK q I A T sM) {s fr x d : Nat} (hs : s < sM) (hx : x < 2 ^ lA A 1 0) (hd : d ≤ 40000) (hfr : fr ≤ 40000) : fX3_when_L81 136 (nI s) (nI fr) (nI x) (nI d) (nI 0) (hw q I L) = some (if decide (fr ≤ d) && T s (trn A d x) then .inr (nI d, hw q I L) else .inl (nI (trn A d x), nI (d + 1), hw q I L)) := by
  obtain ⟨M, R, hT, hsM, W, h24⟩ := id K
  have w5 := W.1.2.2.2.2.2.1
  have w6 := W.1.2.2.2.2.2.2.1
  have w0 := W.1.1
  have w8 := p2_8 W.1.1
  have hy := trn_lt W (d := d) hx
  have eS := mE_isSo (I := I) (L := L) M hT hs (w := trn A d x) (by omega) h24
  have e140 : fX3_when_L140 136 (nI s) (nI fr) (nI (trn A d x)) (nI d) (hw q I L) = some (if decide (fr ≤ d) && T s (trn A d x) then .inr (nI d, hw q I L) else .inl (nI (trn A d x), nI (d + 1), hw q I L)) := by
    by_cases c : fr ≤ d
    · cases c2 : T s (trn A d x)
      · simp (disch := omega) only [fX3_when_L140, fX3_when_L159, nL, nI_add, nJ_mul, nJ_div, nJ_mod, nI_leI, nI_ltI, nI_eq, Option.bind_some, Option.bind_none, Nat.one_ne_zero, Nat.zero_ne_one, Nat.zero_add, Nat.add_zero, if_true, if_false, not_true_eq_false, not_false_eq_true, show ¬ d < fr by omega, dm M, eS, c2, Bool.and_false, Bool.false_eq_true]
      · simp (disch := omega) only [fX3_when_L140, fX3_when_L159, nL, nI_add, nJ_mul, nJ_div, nJ_mod, nI_leI, nI_ltI, nI_eq, Option.bind_some, Option.bind_none, Nat.one_ne_zero, Nat.zero_ne_one, Nat.zero_add, Nat.add_zero, if_true, if_false, not_true_eq_false, not_false_eq_true, show ¬ d < fr by omega, dm M, eS, c2, c, decide_true, Bool.and_self, xr_s]
    · simp (disch := omega) only [fX3_when_L140, fX3_when_L159, nL, nI_add, nJ_mul, nJ_div, nJ_mod, nI_leI, nI_ltI, nI_eq, Option.bind_some, Option.bind_none, Nat.one_ne_zero, Nat.zero_ne_one, Nat.zero_add, Nat.add_zero, if_true, if_false, not_true_eq_false, not_false_eq_true, show d < fr by omega, c, decide_false, Bool.false_and, Bool.false_eq_true]
  rw [← e140]
  unfold fX3_when_L81
  by_cases c : lA A 1 6 < d
  · have et : trn A d x = fo_ (trT A d) x (lA A 1 5) := if_pos c
    rw [et] at e140 eS hy ⊢
    have key := whl_for (f := fun z : Int32 × Int32 × ph_t => fX3_when_L81_b 136 (nI s) (nI fr) (nI d) z.1 z.2.1 z.2.2) (fun i => (nI (fo_ (trT A d) x i), nI i, hw q I L)) (lA A 1 5) (s := (nI x, nI 0, hw q I L)) rfl (t := if decide (fr ≤ d) && T s (fo_ (trT A d) x (lA A 1 5)) then .inr (nI d, hw q I L) else .inl (nI (fo_ (trT A d) x (lA A 1 5)), nI (d + 1), hw q I L)) (fun i hi => ?_) ?_
    · rw [key, e140]
    · have hz := trF_lt W (d := d) hx i (by omega)
      obtain ⟨t1, t2⟩ := W.2.2.2.2.1 i hi
      rw [show fo_ (trT A d) x (i + 1) = trT A d i (fo_ (trT A d) x i) from rfl]
      generalize fo_ (trT A d) x i = y at hz
      have ef := nJ_shl (k := lA A 11 i) (by omega)
      rw [nL 1] at ef
      unfold trT
      by_cases c2 : lA A 12 i = d
      · simp (disch := omega) only [fX3_when_L81_b, fX3_when_L131, nm_, nL, nI_add, nJ_mul, nJ_div, nJ_mod, nI_leI, nI_ltI, nI_eq, Option.bind_some, Option.bind_none, Nat.one_ne_zero, Nat.zero_ne_one, Nat.zero_add, Nat.add_zero, if_true, if_false, not_true_eq_false, not_false_eq_true, gm1 M, xm137 M, rm1 R, gm12 M, xm148 M, rm12 R, gm11 M, xm147 M, rm11 R, c2, ef, nJ_xor, show ¬ lA A 1 5 ≤ i by omega, show ¬ d ≤ lA A 1 6 by omega]
      · simp (disch := omega) only [fX3_when_L81_b, fX3_when_L131, nm_, nL, nI_add, nJ_mul, nJ_div, nJ_mod, nI_leI, nI_ltI, nI_eq, Option.bind_some, Option.bind_none, Nat.one_ne_zero, Nat.zero_ne_one, Nat.zero_add, Nat.add_zero, if_true, if_false, not_true_eq_false, not_false_eq_true, gm1 M, xm137 M, rm1 R, gm12 M, xm148 M, rm12 R, c2, nJ_xor, Nat.xor_zero, show ¬ lA A 1 5 ≤ i by omega, show ¬ d ≤ lA A 1 6 by omega]
    · simp (disch := omega) only [fX3_when_L81_b, nL, nI_add, nJ_mul, nJ_div, nJ_mod, nI_leI, nI_ltI, nI_eq, Option.bind_some, Option.bind_none, Nat.one_ne_zero, Nat.zero_ne_one, Nat.zero_add, Nat.add_zero, if_true, if_false, not_true_eq_false, not_false_eq_true, gm1 M, xm137 M, rm1 R, Nat.le_refl, e140, xr_s]
  · have et : trn A d x = x := if_neg c
    rw [et] at e140 eS hy ⊢
    rw [whl_eq]
    by_cases c5 : lA A 1 5 = 0
    · simp (disch := omega) only [fX3_when_L81_b, nL, nI_add, nJ_mul, nJ_div, nJ_mod, nI_leI, nI_ltI, nI_eq, Option.bind_some, Option.bind_none, Nat.one_ne_zero, Nat.zero_ne_one, Nat.zero_add, Nat.add_zero, if_true, if_false, not_true_eq_false, not_false_eq_true, gm1 M, xm137 M, rm1 R, c5, Nat.le_refl, e140, xr_s]
    · simp (disch := omega) only [fX3_when_L81_b, nL, nI_add, nJ_mul, nJ_div, nJ_mod, nI_leI, nI_ltI, nI_eq, Option.bind_some, Option.bind_none, Nat.one_ne_zero, Nat.zero_ne_one, Nat.zero_add, Nat.add_zero, if_true, if_false, not_true_eq_false, not_false_eq_true, gm1 M, xm137 M, rm1 R, show ¬ lA A 1 5 ≤ 0 by omega, show d ≤ lA A 1 6 by omega, e140, xr_s]
theorem bK_when64 (K : bK q 66 I L A T sM) (hl : ph_R q 64 2 = some 66) {s fr x d : Nat} (hs : s < sM) (hx : x < 2 ^ lA A 1 0) (hd : d ≤ 40000) (hfr : fr ≤ 40000) : fX0_when_L64 64 (nI s) (nI fr) (nI x) (nI d) (nI 0) (hw q I L) = some (if decide (fr ≤ d) && T s (trn A d x) then .inr (nI d, hw q I L) else .inl (nI (trn A d x), nI (d + 1), hw q I L)) := by
  obtain ⟨X, G, R, hT, hsM, W, h24, -⟩ := id K
  have w5 := W.1.2.2.2.2.2.1
  have w6 := W.1.2.2.2.2.2.2.1
  have w0 := W.1.1
  have w8 := p2_8 W.1.1
  have hy := trn_lt W (d := d) hx
  have eS := bE_isSo (I := I) (L := L) X hT hs (w := trn A d x) (by omega) h24
  have e140 : fX0_when_L126 64 (nI s) (nI fr) (nI (trn A d x)) (nI d) (hw q I L) = some (if decide (fr ≤ d) && T s (trn A d x) then .inr (nI d, hw q I L) else .inl (nI (trn A d x), nI (d + 1), hw q I L)) := by
    by_cases c : fr ≤ d
    · cases c2 : T s (trn A d x)
      · simp (disch := omega) only [fX0_when_L126, fX0_when_L145, nL, nI_add, nJ_mul, nJ_div, nJ_mod, nI_leI, nI_ltI, nI_eq, Option.bind_some, Option.bind_none, Nat.one_ne_zero, Nat.zero_ne_one, Nat.zero_add, Nat.add_zero, if_true, if_false, not_true_eq_false, not_false_eq_true, show ¬ d < fr by omega, dx X, eS, c2, Bool.and_false, Bool.false_eq_true]
      · simp (disch := omega) only [fX0_when_L126, fX0_when_L145, nL, nI_add, nJ_mul, nJ_div, nJ_mod, nI_leI, nI_ltI, nI_eq, Option.bind_some, Option.bind_none, Nat.one_ne_zero, Nat.zero_ne_one, Nat.zero_add, Nat.add_zero, if_true, if_false, not_true_eq_false, not_false_eq_true, show ¬ d < fr by omega, dx X, eS, c2, c, decide_true, Bool.and_self, xr_s]
    · simp (disch := omega) only [fX0_when_L126, fX0_when_L145, nL, nI_add, nJ_mul, nJ_div, nJ_mod, nI_leI, nI_ltI, nI_eq, Option.bind_some, Option.bind_none, Nat.one_ne_zero, Nat.zero_ne_one, Nat.zero_add, Nat.add_zero, if_true, if_false, not_true_eq_false, not_false_eq_true, show d < fr by omega, c, decide_false, Bool.false_and, Bool.false_eq_true]
  rw [← e140]
  unfold fX0_when_L64
  by_cases c : lA A 1 6 < d
  · have et : trn A d x = fo_ (trT A d) x (lA A 1 5) := if_pos c
    rw [et] at e140 eS hy ⊢
    have key := whl_for (f := fun z : Int32 × Int32 × ph_t => fX0_when_L64_b 64 (nI s) (nI fr) (nI d) z.1 z.2.1 z.2.2) (fun i => (nI (fo_ (trT A d) x i), nI i, hw q I L)) (lA A 1 5) (s := (nI x, nI 0, hw q I L)) rfl (t := if decide (fr ≤ d) && T s (fo_ (trT A d) x (lA A 1 5)) then .inr (nI d, hw q I L) else .inl (nI (fo_ (trT A d) x (lA A 1 5)), nI (d + 1), hw q I L)) (fun i hi => ?_) ?_
    · rw [key, e140]
    · have hz := trF_lt W (d := d) hx i (by omega)
      obtain ⟨t1, t2⟩ := W.2.2.2.2.1 i hi
      rw [show fo_ (trT A d) x (i + 1) = trT A d i (fo_ (trT A d) x i) from rfl]
      generalize fo_ (trT A d) x i = y at hz
      have ef := nJ_shl (k := lA A 11 i) (by omega)
      rw [nL 1] at ef
      unfold trT
      by_cases c2 : lA A 12 i = d
      · simp (disch := omega) only [fX0_when_L64_b, fX0_when_L120, nm_, nL, nI_add, nJ_mul, nJ_div, nJ_mod, nI_leI, nI_ltI, nI_eq, Option.bind_some, Option.bind_none, Nat.one_ne_zero, Nat.zero_ne_one, Nat.zero_add, Nat.add_zero, if_true, if_false, not_true_eq_false, not_false_eq_true, gx2 X hl, gl_I G, R.f5, R.f6, gl17 G, xl17 G, rl9 R, gl16 G, xl16 G, rl8 R, c2, ef, nJ_xor, show ¬ lA A 1 5 ≤ i by omega, show ¬ d ≤ lA A 1 6 by omega]
      · simp (disch := omega) only [fX0_when_L64_b, fX0_when_L120, nm_, nL, nI_add, nJ_mul, nJ_div, nJ_mod, nI_leI, nI_ltI, nI_eq, Option.bind_some, Option.bind_none, Nat.one_ne_zero, Nat.zero_ne_one, Nat.zero_add, Nat.add_zero, if_true, if_false, not_true_eq_false, not_false_eq_true, gx2 X hl, gl_I G, R.f5, R.f6, gl17 G, xl17 G, rl9 R, c2, show ¬ lA A 1 5 ≤ i by omega, show ¬ d ≤ lA A 1 6 by omega]
    · simp (disch := omega) only [fX0_when_L64_b, nL, nI_add, nJ_mul, nJ_div, nJ_mod, nI_leI, nI_ltI, nI_eq, Option.bind_some, Option.bind_none, Nat.one_ne_zero, Nat.zero_ne_one, Nat.zero_add, Nat.add_zero, if_true, if_false, not_true_eq_false, not_false_eq_true, gx2 X hl, gl_I G, R.f5, Nat.le_refl, e140, xr_s]
  · have et : trn A d x = x := if_neg c
    rw [et] at e140 eS hy ⊢
    rw [whl_eq]
    by_cases c5 : lA A 1 5 = 0
    · simp (disch := omega) only [fX0_when_L64_b, nL, nI_add, nJ_mul, nJ_div, nJ_mod, nI_leI, nI_ltI, nI_eq, Option.bind_some, Option.bind_none, Nat.one_ne_zero, Nat.zero_ne_one, Nat.zero_add, Nat.add_zero, if_true, if_false, not_true_eq_false, not_false_eq_true, gx2 X hl, gl_I G, R.f5, c5, Nat.le_refl, e140, xr_s]
    · simp (disch := omega) only [fX0_when_L64_b, nL, nI_add, nJ_mul, nJ_div, nJ_mod, nI_leI, nI_ltI, nI_eq, Option.bind_some, Option.bind_none, Nat.one_ne_zero, Nat.zero_ne_one, Nat.zero_add, Nat.add_zero, if_true, if_false, not_true_eq_false, not_false_eq_true, gx2 X hl, gl_I G, R.f5, R.f6, show ¬ lA A 1 5 ≤ 0 by omega, show d ≤ lA A 1 6 by omega, e140, xr_s]
theorem J_when (J : jK q I L A T sM) (v w : Int32) : jO q I L T sM (fX0_when 64 v w) (fX3_when 136 v w) := by
  obtain ⟨K, B, V⟩ := id J
  obtain ⟨M, RM, hTM, hsM, W, h24⟩ := id K
  have X := B.1
  have w6 := V.1.1
  have x1 := bL_isAsked B v
  have m1 := kE_isSaying (L := L) K v
  have m2 := kE_isLandB (L := L) K
  have x2 := xin_lit (v := w) (lo := 0) (hi := 9999) (l := 0) (k := 9999) (by decide +kernel) (by decide +kernel) (hw q I L)
  have m3 := in_lit (v := w) (lo := 0) (hi := 9999) (l := 0) (k := 9999) (by decide +kernel) (by decide +kernel) (hw q I L)
  cases c : inB v sM
  · exact jO_same J (r := -(nI 1)) (by simp (disch := omega) only [fX0_when, nL, nI_add, nJ_mul, nJ_div, nJ_mod, nI_leI, nI_ltI, nI_eq, Option.bind_some, Option.bind_none, Nat.one_ne_zero, Nat.zero_ne_one, Nat.zero_add, Nat.add_zero, if_true, if_false, not_true_eq_false, not_false_eq_true, dx X, x1, c, Bool.and_false, Bool.false_eq_true]) (by simp (disch := omega) only [fX3_when, nL, nI_add, nJ_mul, nJ_div, nJ_mod, nI_leI, nI_ltI, nI_eq, Option.bind_some, Option.bind_none, Nat.one_ne_zero, Nat.zero_ne_one, Nat.zero_add, Nat.add_zero, if_true, if_false, not_true_eq_false, not_false_eq_true, dm M, m1, c, Bool.false_eq_true])
  · cases c2 : isL A
    · exact jO_same J (r := -(nI 1)) (by simp (disch := omega) only [fX0_when, nL, nI_add, nJ_mul, nJ_div, nJ_mod, nI_leI, nI_ltI, nI_eq, Option.bind_some, Option.bind_none, Nat.one_ne_zero, Nat.zero_ne_one, Nat.zero_add, Nat.add_zero, if_true, if_false, not_true_eq_false, not_false_eq_true, dx X, x1, c2, Bool.false_and, Bool.false_eq_true]) (by simp (disch := omega) only [fX3_when, nL, nI_add, nJ_mul, nJ_div, nJ_mod, nI_leI, nI_ltI, nI_eq, Option.bind_some, Option.bind_none, Nat.one_ne_zero, Nat.zero_ne_one, Nat.zero_add, Nat.add_zero, if_true, if_false, not_true_eq_false, not_false_eq_true, dm M, m1, c, m2, c2, Bool.false_eq_true])
    · cases c3 : inR w 0 9999
      · exact jO_same J (r := -(nI 1)) (by simp (disch := omega) only [fX0_when, nL, nI_add, nJ_mul, nJ_div, nJ_mod, nI_leI, nI_ltI, nI_eq, Option.bind_some, Option.bind_none, Nat.one_ne_zero, Nat.zero_ne_one, Nat.zero_add, Nat.add_zero, if_true, if_false, not_true_eq_false, not_false_eq_true, dx X, x1, c, c2, x2, c3, Bool.and_self, Bool.false_eq_true]) (by simp (disch := omega) only [fX3_when, nL, nI_add, nJ_mul, nJ_div, nJ_mod, nI_leI, nI_ltI, nI_eq, Option.bind_some, Option.bind_none, Nat.one_ne_zero, Nat.zero_ne_one, Nat.zero_add, Nat.add_zero, if_true, if_false, not_true_eq_false, not_false_eq_true, dm M, m1, c, m2, c2, m3, c3, Bool.false_eq_true])
      · obtain ⟨KB, hl⟩ := B.K (isL_iff.mp c2)
        obtain ⟨-, G, R, -⟩ := id KB
        obtain ⟨s, hs, rfl⟩ := inB_of c (by omega)
        obtain ⟨dy, -, hdy, rfl⟩ := inR_of c3 (by omega)
        obtain ⟨fr, hfr⟩ : ∃ fr, max dy (lA A 1 6) = fr := ⟨_, rfl⟩
        have p : Nat → Bool := fun i => decide (fr ≤ lA A 1 6 + i) && T s (trW A (i + 1))
        have e5 : fX0_when_L52 64 (nI s) (nI fr) (nI (lA A 1 1)) (nI (lA A 1 6)) (hw q I L) = some (match fst_ (fun i => decide (fr ≤ lA A 1 6 + i) && T s (trW A (i + 1))) (fr + 100 - lA A 1 6) with | some i => (nI (lA A 1 6 + i), hw q I L) | none => (-(nI 2), hw q I L)) := by
          unfold fX0_when_L52
          refine whl_find (t1 := fun i => (nI (lA A 1 6 + i), hw q I L)) (fun i => (nI (trW A i), nI (lA A 1 6 + i), hw q I L)) _ (fr + 100 - lA A 1 6) rfl (fun i hi c => ?_) (fun i hi c => ?_) ?_
          · have e := bK_when64 (L := L) KB hl (s := s) (fr := fr) (x := trW A i) (d := lA A 1 6 + i) hs (trW_lt W i) (by omega) (by omega)
            rw [← trW_s, c] at e
            simp only [Bool.false_eq_true, if_false] at e
            simp (disch := omega) only [fX0_when_L52_b, nL, nI_add, nJ_mul, nJ_div, nJ_mod, nI_leI, nI_ltI, nI_eq, Option.bind_some, Option.bind_none, Nat.one_ne_zero, Nat.zero_ne_one, Nat.zero_add, Nat.add_zero, if_true, if_false, not_true_eq_false, not_false_eq_true, show ¬ fr + 100 ≤ lA A 1 6 + i by omega, e, Nat.add_assoc]
          · have e := bK_when64 (L := L) KB hl (s := s) (fr := fr) (x := trW A i) (d := lA A 1 6 + i) hs (trW_lt W i) (by omega) (by omega)
            rw [← trW_s, c] at e
            simp only [if_true] at e
            simp (disch := omega) only [fX0_when_L52_b, nL, nI_add, nJ_mul, nJ_div, nJ_mod, nI_leI, nI_ltI, nI_eq, Option.bind_some, Option.bind_none, Nat.one_ne_zero, Nat.zero_ne_one, Nat.zero_add, Nat.add_zero, if_true, if_false, not_true_eq_false, not_false_eq_true, show ¬ fr + 100 ≤ lA A 1 6 + i by omega, e]
          · simp (disch := omega) only [fX0_when_L52_b, nL, nI_add, nJ_mul, nJ_div, nJ_mod, nI_leI, nI_ltI, nI_eq, Option.bind_some, Option.bind_none, Nat.one_ne_zero, Nat.zero_ne_one, Nat.zero_add, Nat.add_zero, if_true, if_false, not_true_eq_false, not_false_eq_true, show fr + 100 ≤ lA A 1 6 + (fr + 100 - lA A 1 6) by omega, xr_s]
        have e6 : fX3_when_L69 136 (nI s) (nI fr) (nI (lA A 1 1)) (nI (lA A 1 6)) (hw q I L) = some (match fst_ (fun i => decide (fr ≤ lA A 1 6 + i) && T s (trW A (i + 1))) (fr + 100 - lA A 1 6) with | some i => (nI (lA A 1 6 + i), hw q I L) | none => (-(nI 2), hw q I L)) := by
          unfold fX3_when_L69
          refine whl_find (t1 := fun i => (nI (lA A 1 6 + i), hw q I L)) (fun i => (nI (trW A i), nI (lA A 1 6 + i), hw q I L)) _ (fr + 100 - lA A 1 6) rfl (fun i hi c => ?_) (fun i hi c => ?_) ?_
          · have e := kE_when81 (L := L) K (s := s) (fr := fr) (x := trW A i) (d := lA A 1 6 + i) hs (trW_lt W i) (by omega) (by omega)
            rw [← trW_s, c] at e
            simp only [Bool.false_eq_true, if_false] at e
            simp (disch := omega) only [fX3_when_L69_b, nL, nI_add, nJ_mul, nJ_div, nJ_mod, nI_leI, nI_ltI, nI_eq, Option.bind_some, Option.bind_none, Nat.one_ne_zero, Nat.zero_ne_one, Nat.zero_add, Nat.add_zero, if_true, if_false, not_true_eq_false, not_false_eq_true, show ¬ fr + 100 ≤ lA A 1 6 + i by omega, e, Nat.add_assoc]
          · have e := kE_when81 (L := L) K (s := s) (fr := fr) (x := trW A i) (d := lA A 1 6 + i) hs (trW_lt W i) (by omega) (by omega)
            rw [← trW_s, c] at e
            simp only [if_true] at e
            simp (disch := omega) only [fX3_when_L69_b, nL, nI_add, nJ_mul, nJ_div, nJ_mod, nI_leI, nI_ltI, nI_eq, Option.bind_some, Option.bind_none, Nat.one_ne_zero, Nat.zero_ne_one, Nat.zero_add, Nat.add_zero, if_true, if_false, not_true_eq_false, not_false_eq_true, show ¬ fr + 100 ≤ lA A 1 6 + i by omega, e]
          · simp (disch := omega) only [fX3_when_L69_b, nL, nI_add, nJ_mul, nJ_div, nJ_mod, nI_leI, nI_ltI, nI_eq, Option.bind_some, Option.bind_none, Nat.one_ne_zero, Nat.zero_ne_one, Nat.zero_add, Nat.add_zero, if_true, if_false, not_true_eq_false, not_false_eq_true, show fr + 100 ≤ lA A 1 6 + (fr + 100 - lA A 1 6) by omega, xr_s]
        generalize fst_ (fun i => decide (fr ≤ lA A 1 6 + i) && T s (trW A (i + 1))) (fr + 100 - lA A 1 6) = o at e5 e6
        have hmx : mx_ (nI dy) (nI (lA A 1 6)) = nI fr := by
          by_cases c4 : dy < lA A 1 6
          · rw [← hfr, Nat.max_eq_right (by omega)]
            simp (disch := omega) only [mx_, nL, nI_add, nJ_mul, nJ_div, nJ_mod, nI_leI, nI_ltI, nI_eq, Option.bind_some, Option.bind_none, Nat.one_ne_zero, Nat.zero_ne_one, Nat.zero_add, Nat.add_zero, if_true, if_false, not_true_eq_false, not_false_eq_true, c4]
          · rw [← hfr, Nat.max_eq_left (by omega)]
            simp (disch := omega) only [mx_, nL, nI_add, nJ_mul, nJ_div, nJ_mod, nI_leI, nI_ltI, nI_eq, Option.bind_some, Option.bind_none, Nat.one_ne_zero, Nat.zero_ne_one, Nat.zero_add, Nat.add_zero, if_true, if_false, not_true_eq_false, not_false_eq_true, c4]
        have mm : fX3_when 136 (nI s) (nI dy) (hw q I L) = fX3_when_L69 136 (nI s) (nI fr) (nI (lA A 1 1)) (nI (lA A 1 6)) (hw q I L) := by
          by_cases c4 : dy ≤ lA A 1 6
          · have : fr = lA A 1 6 := by rw [← hfr]; exact Nat.max_eq_right c4
            simp (disch := omega) only [fX3_when, fX3_when_L51, nL, nI_add, nJ_mul, nJ_div, nJ_mod, nI_leI, nI_ltI, nI_eq, Option.bind_some, Option.bind_none, Nat.one_ne_zero, Nat.zero_ne_one, Nat.zero_add, Nat.add_zero, if_true, if_false, not_true_eq_false, not_false_eq_true, dm M, m1, c, m2, c2, m3, c3, gm1 M, xm137 M, rm1 RM, c4, this]
          · have : fr = dy := by rw [← hfr]; exact Nat.max_eq_left (by omega)
            simp (disch := omega) only [fX3_when, fX3_when_L51, nL, nI_add, nJ_mul, nJ_div, nJ_mod, nI_leI, nI_ltI, nI_eq, Option.bind_some, Option.bind_none, Nat.one_ne_zero, Nat.zero_ne_one, Nat.zero_add, Nat.add_zero, if_true, if_false, not_true_eq_false, not_false_eq_true, dm M, m1, c, m2, c2, m3, c3, gm1 M, xm137 M, rm1 RM, c4, this]
        refine jO_same J (r := o.elim (-(nI 2)) (fun i => nI (lA A 1 6 + i))) ?_ ?_
        · cases o <;> simp (disch := omega) only [fX0_when, Option.elim, nm_, nL, nI_add, nJ_mul, nJ_div, nJ_mod, nI_leI, nI_ltI, nI_eq, Option.bind_some, Option.bind_none, Nat.one_ne_zero, Nat.zero_ne_one, Nat.zero_add, Nat.add_zero, if_true, if_false, not_true_eq_false, not_false_eq_true, dx X, x1, c, c2, x2, c3, Bool.and_self, gx2 X hl, gl_I G, R.f6, R.f1, hmx, e5]
        · rw [mm, e6]
          cases o <;> rfl
theorem ct9 {k : Nat} (hk : k < 2 ^ 31) {h : ph_t} : fJ9_bitCount (nI k) h = some (nI (ctN k), h) := fJ9_e k hk h
theorem eNb {S p : Nat} (hS : S < 2 ^ 31) (hp : p &&& S = p) : ((nI p ||| (nI S ^^^ (-(nI 1)))) + nI 1) &&& nI S = nI (nxt S p) := by
  rw [bt_m1]
  exact nxt_b hS hp
theorem bE_few64 {s S p : Nat} (hS : S < 2 ^ 31) (hp : p &&& S = p) (c : Int32) : fX0_fewest_L64 64 (nI S) (nI s) c (nI p) (hw q I L) = some (if p = S then .inr (c, hw q I L) else .inl (c, nI (nxt S p), hw q I L)) := by
  have eN := eNb hS hp
  have hle : p ≤ S := by rw [← hp]; exact Nat.and_le_right
  by_cases c2 : p = S
  · subst c2
    simp (disch := omega) only [fX0_fewest_L64, nL, nI_add, nJ_mul, nJ_div, nJ_mod, nI_leI, nI_ltI, nI_eq, Option.bind_some, Option.bind_none, Nat.one_ne_zero, Nat.zero_ne_one, Nat.zero_add, Nat.add_zero, if_true, if_false, not_true_eq_false, not_false_eq_true, xr_s]
  · simp (disch := omega) only [fX0_fewest_L64, nm_, nL, nI_add, nJ_mul, nJ_div, nJ_mod, nI_leI, nI_ltI, nI_eq, Option.bind_some, Option.bind_none, Nat.one_ne_zero, Nat.zero_ne_one, Nat.zero_add, Nat.add_zero, if_true, if_false, not_true_eq_false, not_false_eq_true, c2, eN]
/-- TruthBridge's turn at the fewest -/
theorem bE_f33 {S s v3 v4 : Int32} {h : ph_t} {a b : Nat} (h9 : fJ9_bitCount v4 h = some (nI a, h)) (h8 : fJ9_bitCount v3 h = some (nI b, h)) (hv : ¬ v3 = -(nI 2)) (ha : a ≤ 32) (hb : b ≤ 32) : fX0_fewest_L33_b 64 S s v3 v4 h = if b ≤ a then fX0_fewest_L64 64 S s v3 v4 h else fX0_fewest_L51 64 S s v3 v4 h := by
  have hv' : ¬ v3 = (-2) := fun z => hv (by rw [z]; decide +kernel)
  have hle : nI b ≤ nI a ↔ b ≤ a := nI_leI (by omega) (by omega)
  unfold fX0_fewest_L33_b
  rw [if_neg hv', h9, Option.bind_some]
  dsimp only
  rw [h8, Option.bind_some]
  dsimp only
  by_cases c : b ≤ a
  · rw [if_pos c, if_pos (hle.mpr c)]
  · rw [if_neg c, if_neg (fun z => c (hle.mp z))]
theorem fwN_1 {fol : Nat → Bool} {p k : Nat} (h : ctN p < ctN k) (hf : fol p = true) : fwN fol p (some k) = some p := if_pos ⟨h, hf⟩
theorem fwN_2 {fol : Nat → Bool} {p k : Nat} (hf : fol p = false) : fwN fol p (some k) = some k := if_neg (fun z => by rw [hf] at z; cases z.2)
theorem fwN_3 {fol : Nat → Bool} {p k : Nat} (h : ¬ ctN p < ctN k) : fwN fol p (some k) = some k := if_neg (fun z => h z.1)
theorem bK_few33 (K : bK q 66 I L A T sM) (hl : ph_R q 64 2 = some 66) {s S p : Nat} {b : Option Nat} (hs : s < sM) (hS : S < 2 ^ 31) (hp : p &&& S = p) (hb : ∀ k, b = some k → k < 2 ^ 31) :
    fX0_fewest_L33_b 64 (nI S) (nI s) (enO b) (nI p) (hw q I L) = some (if p = S then .inr (enO (fwN (fun p => a_fol A T sM p s) p b), hw q I L) else .inl (enO (fwN (fun p => a_fol A T sM p s) p b), nI (nxt S p), hw q I L)) := by
  have X := K.1
  have hle : p ≤ S := by rw [← hp]; exact Nat.and_le_right
  have eF := bK_follows (L := L) K hl (set := p) hs
  have hc := ctN_le (p := p)
  have e64 := bE_few64 (q := q) (I := I) (L := L) (s := s) hS hp
  have hp31 : p < 2 ^ 31 := Nat.lt_of_le_of_lt hle hS
  clear hp
  cases b with
  | none =>
    unfold fwN
    cases c1 : a_fol A T sM p s
    · simp (disch := omega) only [fX0_fewest_L33_b, fX0_fewest_L51, nL, nI_add, nJ_mul, nJ_div, nJ_mod, nI_leI, nI_ltI, nI_eq, Option.bind_some, Option.bind_none, Nat.one_ne_zero, Nat.zero_ne_one, Nat.zero_add, Nat.add_zero, if_true, if_false, not_true_eq_false, not_false_eq_true, enO_n, dx X, eF, c1, e64, Bool.false_eq_true]
    · simp (disch := omega) only [fX0_fewest_L33_b, fX0_fewest_L51, nL, nI_add, nJ_mul, nJ_div, nJ_mod, nI_leI, nI_ltI, nI_eq, Option.bind_some, Option.bind_none, Nat.one_ne_zero, Nat.zero_ne_one, Nat.zero_add, Nat.add_zero, if_true, if_false, not_true_eq_false, not_false_eq_true, enO_n, enO_s, dx X, eF, c1, e64]
  | some k =>
    have hk := hb k rfl
    have hck := ctN_le (p := k)
    have e2 := nI_m2 hk
    have e7 := ct9 (k := p) hp31 (h := hw q I L)
    have e8 := ct9 (k := k) hk (h := hw q I L)
    have e9 := bE_f33 (S := nI S) (s := nI s) e7 e8 (fun z => by rw [e2] at z; exact z) hc hck
    rw [enO_s, e9]
    by_cases c0 : ctN p < ctN k
    · cases c1 : a_fol A T sM p s
      · rw [fwN_2 (fol := fun p => a_fol A T sM p s) (p := p) (k := k) c1]
        rw [if_neg (show ¬ ctN k ≤ ctN p by omega)]
        simp (disch := omega) only [fX0_fewest_L51, nL, nI_add, nJ_mul, nJ_div, nJ_mod, nI_leI, nI_ltI, nI_eq, Option.bind_some, Option.bind_none, Nat.one_ne_zero, Nat.zero_ne_one, Nat.zero_add, Nat.add_zero, if_true, if_false, not_true_eq_false, not_false_eq_true, enO_s, dx X, eF, c1, e64, Bool.false_eq_true, and_false]
      · rw [fwN_1 (fol := fun p => a_fol A T sM p s) (p := p) (k := k) c0 c1]
        rw [if_neg (show ¬ ctN k ≤ ctN p by omega)]
        simp (disch := omega) only [fX0_fewest_L51, nL, nI_add, nJ_mul, nJ_div, nJ_mod, nI_leI, nI_ltI, nI_eq, Option.bind_some, Option.bind_none, Nat.one_ne_zero, Nat.zero_ne_one, Nat.zero_add, Nat.add_zero, if_true, if_false, not_true_eq_false, not_false_eq_true, enO_s, dx X, eF, c1, e64, and_self]
    · rw [fwN_3 (fol := fun p => a_fol A T sM p s) (p := p) (k := k) c0]
      rw [if_pos (show ctN k ≤ ctN p by omega)]
      simp (disch := omega) only [fX0_fewest_L51, nL, nI_add, nJ_mul, nJ_div, nJ_mod, nI_leI, nI_ltI, nI_eq, Option.bind_some, Option.bind_none, Nat.one_ne_zero, Nat.zero_ne_one, Nat.zero_add, Nat.add_zero, if_true, if_false, not_true_eq_false, not_false_eq_true, enO_s, e64, false_and]
theorem J_fewest (J : jK q I L A T sM) (v w : Int32) : jO q I L T sM (fX0_fewest 64 v w) (fX3_fewest 136 v w) := by
  obtain ⟨K, B, V⟩ := id J
  obtain ⟨M, RM, hTM, hsM, W, h24⟩ := id K
  have X := B.1
  have h8 : 2 ^ sM ≤ 2 ^ 24 := Nat.pow_le_pow_right (by decide) h24
  have x1 := bL_isSet B v
  have m1 := kE_isSet (L := L) K v
  have x2 := bL_isSaying B w
  have m2 := kE_isSaying (L := L) K w
  cases c : (isL A && inB v (2 ^ sM))
  · exact jO_same J (r := -(nI 1)) (by simp (disch := omega) only [fX0_fewest, nL, nI_add, nJ_mul, nJ_div, nJ_mod, nI_leI, nI_ltI, nI_eq, Option.bind_some, Option.bind_none, Nat.one_ne_zero, Nat.zero_ne_one, Nat.zero_add, Nat.add_zero, if_true, if_false, not_true_eq_false, not_false_eq_true, dx X, x1, c, Bool.false_eq_true]) (by simp (disch := omega) only [fX3_fewest, nL, nI_add, nJ_mul, nJ_div, nJ_mod, nI_leI, nI_ltI, nI_eq, Option.bind_some, Option.bind_none, Nat.one_ne_zero, Nat.zero_ne_one, Nat.zero_add, Nat.add_zero, if_true, if_false, not_true_eq_false, not_false_eq_true, dm M, m1, c, Bool.false_eq_true])
  · cases c2 : inB w sM
    · exact jO_same J (r := -(nI 1)) (by simp (disch := omega) only [fX0_fewest, nL, nI_add, nJ_mul, nJ_div, nJ_mod, nI_leI, nI_ltI, nI_eq, Option.bind_some, Option.bind_none, Nat.one_ne_zero, Nat.zero_ne_one, Nat.zero_add, Nat.add_zero, if_true, if_false, not_true_eq_false, not_false_eq_true, dx X, x1, c, x2, c2, Bool.false_eq_true]) (by simp (disch := omega) only [fX3_fewest, nL, nI_add, nJ_mul, nJ_div, nJ_mod, nI_leI, nI_ltI, nI_eq, Option.bind_some, Option.bind_none, Nat.one_ne_zero, Nat.zero_ne_one, Nat.zero_add, Nat.add_zero, if_true, if_false, not_true_eq_false, not_false_eq_true, dm M, m1, c, m2, c2, Bool.false_eq_true])
    · have c5 := c
      rw [Bool.and_eq_true] at c5
      obtain ⟨KB, hl⟩ := B.K (isL_iff.mp c5.1)
      obtain ⟨s, hs, rfl⟩ := inB_of c2 (by omega)
      obtain ⟨S, hS, rfl⟩ := inB_of c5.2 (by omega)
      have hct := ctN_le (p := S)
      have ect : fJ9_bitCount (nI S) (hw q I L) = some (nI (ctN S), hw q I L) := ct9 (by omega)
      by_cases c6 : ctN S ≤ 12
      · obtain ⟨t, ht⟩ := few_end (fun p => a_fol A T sM p s) (s := S) (by omega)
        have e5 : ∃ r, fX0_fewest_L33 64 (nI S) (nI s) (-(nI 2)) (nI 0) (hw q I L) = some r ∧ r = (enO t, hw q I L) := by
          unfold fX0_fewest_L33
          refine whl_sim (g := few_g (fun p => a_fol A T sM p s) S) (fun z' z => z = (enO z'.1, nI z'.2, hw q I L) ∧ z'.2 &&& S = z'.2 ∧ ∀ k, z'.1 = some k → k < 2 ^ 31) (fun t r => r = (enO t, hw q I L)) ?_ (s' := (none, 0)) ⟨rfl, Nat.zero_and S, fun k hk => by cases hk⟩ ht
          rintro ⟨b, p⟩ z ⟨rfl, h1, h2⟩
          dsimp only at h1 h2
          have e := bK_few33 (L := L) KB hl hs (by omega) h1 h2
          have hle : p ≤ S := by rw [← h1]; exact Nat.and_le_right
          have h31 : p < 2 ^ 31 := by omega
          by_cases cc : p = S
          · right; left
            rw [if_pos cc] at e
            exact ⟨_, _, by simp only [few_g, cc, if_true]; rfl, e, by rw [cc]⟩
          · left
            rw [if_neg cc] at e
            exact ⟨_, _, by simp only [few_g, cc, if_false]; rfl, e, rfl, nxt_sub, fwN_lt (fol := fun p => a_fol A T sM p s) h31 h2⟩
        have e6 : ∃ r, fX3_fewest_L36 136 (nI S) (nI s) (-(nI 2)) (nI 0) (nI 0) (hw q I L) = some r ∧ r = (enO t, hw q I L) := by
          unfold fX3_fewest_L36
          have gen : ∀ n b p, wh_ n (few_g (fun p => a_fol A T sM p s) S) (b, p) = some t → p ≤ S → (∀ k, b = some k → k < 2 ^ 31) → whl (fun z : Int32 × Int32 × Int32 × ph_t => fX3_fewest_L36_b 136 (nI S) (nI s) z.1 z.2.1 z.2.2.1 z.2.2.2) (enO b, nI p, nI 0, hw q I L) = some (enO t, hw q I L) := by
            intro n
            induction n with
            | zero => intro b p h; cases h
            | succ n ih =>
              intro b p h h1 h2
              have e := kE_few36 (L := L) K (s := s) (S := S) (p := p) (b := b) hs (by omega) h1 h2
              rw [whl_eq]
              show (fX3_fewest_L36_b 136 (nI S) (nI s) (enO b) (nI p) (nI 0) (hw q I L)).bind _ = _
              rw [e]
              unfold wh_ at h
              by_cases cc : p = S
              · rw [if_pos cc]
                simp only [few_g, cc, if_true, Option.bind_some] at h
                cases h
                rw [cc]
                refine whl_end ?_
                simp (disch := omega) only [fX3_fewest_L36_b, nL, nI_add, nJ_mul, nJ_div, nJ_mod, nI_leI, nI_ltI, nI_eq, Option.bind_some, Option.bind_none, Nat.one_ne_zero, Nat.zero_ne_one, Nat.zero_add, Nat.add_zero, if_true, if_false, not_true_eq_false, not_false_eq_true, xr_s]
              · rw [if_neg cc]
                simp only [few_g, cc, if_false, Option.bind_some] at h
                exact ih _ _ h nxt_le (fwN_lt (N := 2 ^ 31) (by omega) h2)
          obtain ⟨n, hn⟩ := whl_iff.mp ht
          exact ⟨_, gen n none 0 hn (by omega) (fun k hk => by cases hk), rfl⟩
        obtain ⟨r5, e5, rfl⟩ := e5
        obtain ⟨r6, e6, rfl⟩ := e6
        exact jO_same J (r := enO t) (by simp (disch := omega) only [fX0_fewest, nL, nI_add, nJ_mul, nJ_div, nJ_mod, nI_leI, nI_ltI, nI_eq, Option.bind_some, Option.bind_none, Nat.one_ne_zero, Nat.zero_ne_one, Nat.zero_add, Nat.add_zero, if_true, if_false, not_true_eq_false, not_false_eq_true, dx X, x1, c, x2, c2, ect, c6, e5]) (by simp (disch := omega) only [fX3_fewest, nL, nI_add, nJ_mul, nJ_div, nJ_mod, nI_leI, nI_ltI, nI_eq, Option.bind_some, Option.bind_none, Nat.one_ne_zero, Nat.zero_ne_one, Nat.zero_add, Nat.add_zero, if_true, if_false, not_true_eq_false, not_false_eq_true, dm M, m1, c, m2, c2, mE_bitsN, c6, e6])
      · exact jO_same J (r := -(nI 1)) (by simp (disch := omega) only [fX0_fewest, nL, nI_add, nJ_mul, nJ_div, nJ_mod, nI_leI, nI_ltI, nI_eq, Option.bind_some, Option.bind_none, Nat.one_ne_zero, Nat.zero_ne_one, Nat.zero_add, Nat.add_zero, if_true, if_false, not_true_eq_false, not_false_eq_true, dx X, x1, c, x2, c2, ect, c6]) (by simp (disch := omega) only [fX3_fewest, nL, nI_add, nJ_mul, nJ_div, nJ_mod, nI_leI, nI_ltI, nI_eq, Option.bind_some, Option.bind_none, Nat.one_ne_zero, Nat.zero_ne_one, Nat.zero_add, Nat.add_zero, if_true, if_false, not_true_eq_false, not_false_eq_true, dm M, m1, c, m2, c2, mE_bitsN, c6])
end JF
