/-! P2 JN: the plans, and the model's search -/
abbrev plb_t : Type := Nat × (Nat → Nat)
def usd (P : Nat → Nat) (e i : Nat) : Bool := anyB (fun k => decide (P k / 8 = i)) e
def plU (e : Nat) (P : Nat → Nat) (b : plb_t) : plb_t := if b.1 < e then (e, P) else b
def plS (A : ld_t) (T : Nat → Nat → Bool) (sM : Nat) (gs : Nat → Nat) (rec_ : Nat → (Nat → Nat) → (Nat → Bool) → plb_t → plb_t) (e : Nat) (P : Nat → Nat) (H : Nat → Bool) (i s : Nat) (b : plb_t) : plb_t := if s < sM ∧ usd P e i = false ∧ a_gets (lHs A 6 H) T (gs i) s = true then rec_ (e + 1) (upN P e (8 * i + s)) (fun w => H w && T s w) (plU (e + 1) (upN P e (8 * i + s)) b) else b
def pl (A : ld_t) (T : Nat → Nat → Bool) (sM : Nat) (gs : Nat → Nat) (gm : Nat) : Nat → Nat → (Nat → Nat) → (Nat → Bool) → plb_t → plb_t
  | 0, _, _, _, b => b
  | d + 1, e, P, H, b => fo_ (fun i b => fo_ (fun s b => plS A T sM gs (pl A T sM gs gm d) e P H i s b) b 8) b gm
theorem plS_0 {A : ld_t} {T : Nat → Nat → Bool} {sM : Nat} {gs : Nat → Nat} {rec_ : Nat → (Nat → Nat) → (Nat → Bool) → plb_t → plb_t} {e : Nat} {P : Nat → Nat} {H : Nat → Bool} {i s : Nat} {b : plb_t} (h : ¬ (s < sM ∧ usd P e i = false ∧ a_gets (lHs A 6 H) T (gs i) s = true)) : plS A T sM gs rec_ e P H i s b = b := if_neg h
theorem plS_1 {A : ld_t} {T : Nat → Nat → Bool} {sM : Nat} {gs : Nat → Nat} {rec_ : Nat → (Nat → Nat) → (Nat → Bool) → plb_t → plb_t} {e : Nat} {P : Nat → Nat} {H : Nat → Bool} {i s : Nat} {b : plb_t} (h : s < sM ∧ usd P e i = false ∧ a_gets (lHs A 6 H) T (gs i) s = true) : plS A T sM gs rec_ e P H i s b = rec_ (e + 1) (upN P e (8 * i + s)) (fun w => H w && T s w) (plU (e + 1) (upN P e (8 * i + s)) b) := if_pos h
theorem lHs_2 {A : ld_t} {p : Nat} {X H : Nat → Bool} : lHs (lHs A p X) p H = lHs A p H := by
  unfold lHs
  congr 1
  congr 1
  funext w
  dsimp only
  split <;> rfl
theorem lHs_s {A : ld_t} {p : Nat} : lHs A p (lH A p) = A := by
  unfold lHs lH
  refine Prod.ext rfl (Prod.ext ?_ rfl)
  funext a w
  dsimp only
  split
  · rename_i c
    rw [c]
  · rfl
theorem lHs_6 {A : ld_t} {p : Nat} {H : Nat → Bool} : lH (lHs A p H) p = H := by
  funext w
  exact if_pos rfl
theorem nI_un1 {k : Nat} : nI (k + 1) + -(nI 1) = nI k := by
  rw [← nI_add, Int32.add_assoc, Int32.add_right_neg, Int32.add_zero]
theorem eq_ind {R : Type} (W : iF → R) (Q : Nat → iF → Prop) : ∀ (n : Nat), (∀ i I, i < n → Q i I → ∃ I', W I = W I' ∧ Q (i + 1) I') → ∀ I, Q 0 I → ∃ I', W I = W I' ∧ Q n I'
  | 0, _, I, h => ⟨I, rfl, h⟩
  | n + 1, st, I, h => by
    obtain ⟨I1, e1, h1⟩ := eq_ind W Q n (fun i J hi => st i J (by omega)) I h
    obtain ⟨I2, e2, h2⟩ := st n I1 (by omega) h1
    exact ⟨I2, e1.trans e2, h2⟩
section JNN
variable {q : ph_t} {I : iF} {L : lF_} {A : ld_t} {T : Nat → Nat → Bool} {sM : Nat}
theorem kE_bto0 (M : MS q) {e : Nat} (he : e < 5) : ∃ I', fX3_bridgeTo 136 (nI e) (nI 0) (hw q I L) = some ((), hw q I' L) ∧ (∀ a, a ≠ 185 → I' a = I a) ∧ (∀ j, (j < 8 * e ∨ 8 * e + 8 ≤ j) → I' 185 j = I 185 j) ∧ ∀ k, k < 8 → I' 185 (8 * e + k) = I 151 (48 + k) := by
  have : ∃ t, fX3_bridgeTo 136 (nI e) (nI 0) (hw q I L) = some t ∧ ∃ I', t = ((), hw q I' L) ∧ (∀ a, a ≠ 185 → I' a = I a) ∧ (∀ j, (j < 8 * e ∨ 8 * e + 8 ≤ j) → I' 185 j = I 185 j) ∧ ∀ k, k < 8 → I' 185 (8 * e + k) = I 151 (48 + k) := by
    unfold fX3_bridgeTo fX3_bridgeTo_L2
    refine whl_st (α := iF) (fun k U => (nI k, hw q U L)) (fun i U => (∀ a, a ≠ 185 → U a = I a) ∧ (∀ j, (j < 8 * e ∨ 8 * e + 8 ≤ j) → U 185 j = I 185 j) ∧ ∀ k, k < i → U 185 (8 * e + k) = I 151 (48 + k)) 8 (a := I) rfl ⟨fun _ _ => rfl, fun _ _ => rfl, fun k hk => absurd hk (by omega)⟩ ?_ ?_
    · rintro i U hi ⟨f1, f2, f3⟩
      refine ⟨ph_u U 185 (8 * e + i) (U 151 (48 + i)), by simp (disch := omega) only [fX3_bridgeTo_L2_b, fX3_bridgeTo_L55, nL, nI_add, nJ_mul, nJ_div, nJ_mod, nI_leI, nI_ltI, nI_eq, Option.bind_some, Option.bind_none, Nat.one_ne_zero, Nat.zero_ne_one, Nat.zero_add, Nat.add_zero, if_true, if_false, not_true_eq_false, not_false_eq_true, show ¬ 8 ≤ i by omega, gm66 M, gm15 M, xm151 M, ym185 M], fun a ha => by rw [pu_ne ha]; exact f1 a ha, fun j hj => by rw [pu_nk (by omega)]; exact f2 j hj, fun k hk => ?_⟩
      rw [pu_at]
      by_cases c : k = i
      · subst c
        rw [if_pos rfl, f1 151 (by decide)]
      · rw [if_neg (by omega)]
        exact f3 k (by omega)
    · rintro U ⟨f1, f2, f3⟩
      exact ⟨_, by simp (disch := omega) only [fX3_bridgeTo_L2_b, nL, nI_add, nJ_mul, nJ_div, nJ_mod, nI_leI, nI_ltI, nI_eq, Option.bind_some, Option.bind_none, Nat.one_ne_zero, Nat.zero_ne_one, Nat.zero_add, Nat.add_zero, if_true, if_false, not_true_eq_false, not_false_eq_true, Nat.le_refl, xr_s] <;> rfl, U, rfl, f1, f2, f3⟩
  obtain ⟨t, a1, I', rfl, a2⟩ := this
  exact ⟨I', a1, a2⟩
theorem kE_bto1 (M : MS q) {e : Nat} (he : e < 5) : ∃ I', fX3_bridgeTo 136 (nI e) (nI 1) (hw q I L) = some ((), hw q I' L) ∧ hdF I I' 6 ∧ ∀ k, k < 8 → I' 151 (48 + k) = I 185 (8 * e + k) := by
  have : ∃ t, fX3_bridgeTo 136 (nI e) (nI 1) (hw q I L) = some t ∧ ∃ I', t = ((), hw q I' L) ∧ hdF I I' 6 ∧ ∀ k, k < 8 → I' 151 (48 + k) = I 185 (8 * e + k) := by
    unfold fX3_bridgeTo fX3_bridgeTo_L2
    refine whl_st (α := iF) (fun k U => (nI k, hw q U L)) (fun i U => hdF I U 6 ∧ ∀ k, k < i → U 151 (48 + k) = I 185 (8 * e + k)) 8 (a := I) rfl ⟨hdF.rf, fun k hk => absurd hk (by omega)⟩ ?_ ?_
    · rintro i U hi ⟨f1, f3⟩
      refine ⟨ph_u U 151 (48 + i) (U 185 (8 * e + i)), by simp (disch := omega) only [fX3_bridgeTo_L2_b, fX3_bridgeTo_L55, nL, nI_add, nJ_mul, nJ_div, nJ_mod, nI_leI, nI_ltI, nI_eq, Option.bind_some, Option.bind_none, Nat.one_ne_zero, Nat.zero_ne_one, Nat.zero_add, Nat.add_zero, if_true, if_false, not_true_eq_false, not_false_eq_true, show ¬ 8 ≤ i by omega, gm66 M, gm15 M, ym151 M, xm185 M], f1.up (by omega), fun k hk => ?_⟩
      rw [pu_at]
      by_cases c : k = i
      · subst c
        rw [if_pos rfl, f1.1 185 (by decide)]
      · rw [if_neg (by omega)]
        exact f3 k (by omega)
    · rintro U ⟨f1, f3⟩
      exact ⟨_, by simp (disch := omega) only [fX3_bridgeTo_L2_b, nL, nI_add, nJ_mul, nJ_div, nJ_mod, nI_leI, nI_ltI, nI_eq, Option.bind_some, Option.bind_none, Nat.one_ne_zero, Nat.zero_ne_one, Nat.zero_add, Nat.add_zero, if_true, if_false, not_true_eq_false, not_false_eq_true, Nat.le_refl, xr_s] <;> rfl, U, rfl, f1, f3⟩
  obtain ⟨t, a1, I', rfl, a2⟩ := this
  exact ⟨I', a1, a2⟩
theorem kE_isUsed (M : MS q) {P : Nat → Nat} {e i : Nat} (he : e < 5) (hi : i < 6) (h : ∀ k, k < e → I 183 k = nI (P k) ∧ P k < 48) : fX3_isUsed 136 (nI e) (nI i) (hw q I L) = some (nI (if usd P e i then 1 else 0), hw q I L) := by
  unfold fX3_isUsed fX3_isUsed_L2
  have := whl_any (f := fun s_1 : Int32 × ph_t => fX3_isUsed_L2_b 136 (nI e) (nI i) s_1.1 s_1.2) (fun i => (nI i, hw q I L)) (fun k => decide (P k / 8 = i)) e (t0 := (nI 0, hw q I L)) (t1 := (nI 1, hw q I L)) rfl
    (fun k hk c => by
      obtain ⟨h1, h2⟩ := h k hk
      have c := of_decide_eq_false c
      simp (disch := omega) only [fX3_isUsed_L2_b, nL, nI_add, nJ_mul, nJ_div, nJ_mod, nI_leI, nI_ltI, nI_eq, Option.bind_some, Option.bind_none, Nat.one_ne_zero, Nat.zero_ne_one, Nat.zero_add, Nat.add_zero, if_true, if_false, not_true_eq_false, not_false_eq_true, gm64 M, xm183 M, h1, show ¬ e ≤ k by omega, c])
    (fun k hk c => by
      obtain ⟨h1, h2⟩ := h k hk
      have c := of_decide_eq_true c
      simp (disch := omega) only [fX3_isUsed_L2_b, nL, nI_add, nJ_mul, nJ_div, nJ_mod, nI_leI, nI_ltI, nI_eq, Option.bind_some, Option.bind_none, Nat.one_ne_zero, Nat.zero_ne_one, Nat.zero_add, Nat.add_zero, if_true, if_false, not_true_eq_false, not_false_eq_true, gm64 M, xm183 M, h1, show ¬ e ≤ k by omega, c, rz_1, xr_s])
    (by simp (disch := omega) only [fX3_isUsed_L2_b, nL, nI_add, nJ_mul, nJ_div, nJ_mod, nI_leI, nI_ltI, nI_eq, Option.bind_some, Option.bind_none, Nat.one_ne_zero, Nat.zero_ne_one, Nat.zero_add, Nat.add_zero, if_true, if_false, not_true_eq_false, not_false_eq_true, Nat.le_refl, rz_0, xr_s])
  rw [show (0 : Int32) = nI 0 from nJ_0, this]
  unfold usd
  cases anyB (fun k => decide (P k / 8 = i)) e <;> rfl
theorem kE_cpT (M : MS q) : ∃ I', fX3_copies (some 183) (some 184) (hw q I L) = some ((), hw q I' L) ∧ (∀ a, a ≠ 184 → I' a = I a) ∧ ∀ k, k < 5 → I' 184 k = I 183 k := by
  have : ∃ t, fX3_copies (some 183) (some 184) (hw q I L) = some t ∧ ∃ I', t = ((), hw q I' L) ∧ (∀ a, a ≠ 184 → I' a = I a) ∧ ∀ k, k < 5 → I' 184 k = I 183 k := by
    unfold fX3_copies fX3_copies_L2
    refine whl_st (α := iF) (fun k U => (nI k, hw q U L)) (fun i U => (∀ a, a ≠ 184 → U a = I a) ∧ ∀ k, k < i → U 184 k = I 183 k) 5 (a := I) rfl ⟨fun _ _ => rfl, fun k hk => absurd hk (by omega)⟩ ?_ ?_
    · rintro i U hi ⟨f1, f3⟩
      refine ⟨ph_u U 184 i (U 183 i), by simp (disch := omega) only [fX3_copies_L2_b, nL, nI_add, nJ_mul, nJ_div, nJ_mod, nI_leI, nI_ltI, nI_eq, Option.bind_some, Option.bind_none, Nat.one_ne_zero, Nat.zero_ne_one, Nat.zero_add, Nat.add_zero, if_true, if_false, not_true_eq_false, not_false_eq_true, nm183 M, show ¬ 5 ≤ i by omega, xm183 M, ym184 M], fun a ha => by rw [pu_ne ha]; exact f1 a ha, fun k hk => ?_⟩
      rw [pu_at]
      by_cases c : k = i
      · subst c
        rw [if_pos rfl, f1 183 (by decide)]
      · rw [if_neg (by omega)]
        exact f3 k (by omega)
    · rintro U ⟨f1, f3⟩
      exact ⟨_, by simp (disch := omega) only [fX3_copies_L2_b, nL, nI_add, nJ_mul, nJ_div, nJ_mod, nI_leI, nI_ltI, nI_eq, Option.bind_some, Option.bind_none, Nat.one_ne_zero, Nat.zero_ne_one, Nat.zero_add, Nat.add_zero, if_true, if_false, not_true_eq_false, not_false_eq_true, nm183 M, Nat.le_refl, xr_s] <;> rfl, U, rfl, f1, f3⟩
  obtain ⟨t, a1, I', rfl, a2⟩ := this
  exact ⟨I', a1, a2⟩
/-- the model amid its search -/
def mPl (q : ph_t) (I : iF) (A : ld_t) (T : Nat → Nat → Bool) (sM : Nat) (gs : Nat → Nat) (gm : Nat) (b : plb_t) : Prop := (∃ X, mK q I (lHs A 6 X) T sM) ∧ I 136 67 = nI gm ∧ (∀ k, k < gm → I 182 k = nI (gs k)) ∧ I 136 68 = nI b.1 ∧ (∀ k, k < b.1 → I 184 k = nI (b.2 k)) ∧ b.1 ≤ gm
def mPf (I I' : iF) (e : Nat) : Prop := (∀ a, a ≠ 136 → a ≠ 151 → a ≠ 183 → a ≠ 184 → a ≠ 185 → I' a = I a) ∧ (∀ j, j ≠ 68 → I' 136 j = I 136 j) ∧ (∀ k, k < e → I' 183 k = I 183 k) ∧ ∀ j, j < 8 * e + 8 → I' 185 j = I 185 j
theorem mPf.rf {I : iF} {e : Nat} : mPf I I e := ⟨fun _ _ _ _ _ _ => rfl, fun _ _ => rfl, fun _ _ => rfl, fun _ _ => rfl⟩
theorem mPf.tr {I I' I'' : iF} {e : Nat} (h : mPf I I' e) (h' : mPf I' I'' e) : mPf I I'' e := ⟨fun a h1 h2 h3 h4 h5 => (h'.1 a h1 h2 h3 h4 h5).trans (h.1 a h1 h2 h3 h4 h5), fun j hj => (h'.2.1 j hj).trans (h.2.1 j hj), fun j hj => (h'.2.2.1 j hj).trans (h.2.2.1 j hj), fun j hj => (h'.2.2.2 j hj).trans (h.2.2.2 j hj)⟩
theorem mPf.lo {I I' : iF} {e : Nat} (h : mPf I I' (e + 1)) : mPf I I' e := ⟨h.1, h.2.1, fun k hk => h.2.2.1 k (by omega), fun j hj => h.2.2.2 j (by omega)⟩
end JNN
