/-! P2 JI: both answer: the next -/
def flN (A : ld_t) (T : Nat → Nat → Bool) (sM s n : Nat) : Nat := fFS (fitB A T sM) (fun set x => x + if a_fol A T sM set s then 1 else 0) 0 n
theorem flN_le {A : ld_t} {T : Nat → Nat → Bool} {sM s : Nat} : ∀ n, flN A T sM s n ≤ fb_ct (fitB A T sM) n
  | 0 => Nat.le_refl _
  | n + 1 => by
    have ih := flN_le (A := A) (T := T) (sM := sM) (s := s) n
    rw [fb_ct_succ]
    unfold flN at ih ⊢
    cases c : fitB A T sM n
    · rw [fFS_0 c]
      omega
    · rw [fFS_1 c]
      have h1 : (if a_fol A T sM n s = true then 1 else 0) ≤ 1 := by split <;> omega
      simp only [if_true]
      omega
def grN (A : ld_t) (T : Nat → Nat → Bool) (sM s : Nat) : Nat := max (flN A T sM s (2 ^ m8_ sM)) (fb_ct (fitB A T sM) (2 ^ m8_ sM) - flN A T sM s (2 ^ m8_ sM))
def nxB (g : Nat → Nat) (s : Nat) (o : Option (Nat × Nat)) : Option (Nat × Nat) := match o with
  | none => some (s, g s)
  | some z => if g s < z.2 then some (s, g s) else some z
def nxF (g : Nat → Nat) (n : Nat) : Option (Nat × Nat) := fo_ (nxB g) none n
theorem nxF_lt {g : Nat → Nat} {N n : Nat} (hg : ∀ s, g s ≤ N) : ∀ z, nxF g n = some z → z.1 < n ∧ z.2 ≤ N := by
  induction n with
  | zero => intro z h; cases h
  | succ n ih =>
    intro z h
    have h : nxB g n (nxF g n) = some z := h
    cases e : nxF g n with
    | none =>
      rw [e] at h
      cases h
      exact ⟨by omega, hg n⟩
    | some y =>
      rw [e] at h
      have := ih y e
      by_cases c : g n < y.2
      · have h : (if g n < y.2 then some (n, g n) else some y) = some z := h
        rw [if_pos c] at h
        cases h
        exact ⟨by omega, hg n⟩
      · have h : (if g n < y.2 then some (n, g n) else some y) = some z := h
        rw [if_neg c] at h
        cases h
        exact ⟨by omega, this.2⟩
theorem nxB_1 {g : Nat → Nat} {s : Nat} {z : Nat × Nat} (h : g s < z.2) : nxB g s (some z) = some (s, g s) := if_pos h
theorem nxB_2 {g : Nat → Nat} {s : Nat} {z : Nat × Nat} (h : ¬ g s < z.2) : nxB g s (some z) = some z := if_neg h
def en1 (o : Option (Nat × Nat)) : Int32 := enO (o.map (·.1))
def en2 (o : Option (Nat × Nat)) : Int32 := enO (o.map (·.2))
theorem en1_n : en1 none = -(nI 2) := rfl
theorem en2_n : en2 none = -(nI 2) := rfl
theorem en1_s {z : Nat × Nat} : en1 (some z) = nI z.1 := rfl
theorem en2_s {z : Nat × Nat} : en2 (some z) = nI z.2 := rfl
theorem mx_n {a b : Nat} (ha : a < 2 ^ 31) (hb : b < 2 ^ 31) : mx_ (nI a) (nI b) = nI (max a b) := by
  by_cases c : a < b
  · rw [Nat.max_eq_right (by omega)]
    simp (disch := omega) only [mx_, nL, nI_add, nJ_mul, nJ_div, nJ_mod, nI_leI, nI_ltI, nI_eq, Option.bind_some, Option.bind_none, Nat.one_ne_zero, Nat.zero_ne_one, Nat.zero_add, Nat.add_zero, if_true, if_false, not_true_eq_false, not_false_eq_true, c]
  · rw [Nat.max_eq_left (by omega)]
    simp (disch := omega) only [mx_, nL, nI_add, nJ_mul, nJ_div, nJ_mod, nI_leI, nI_ltI, nI_eq, Option.bind_some, Option.bind_none, Nat.one_ne_zero, Nat.zero_ne_one, Nat.zero_add, Nat.add_zero, if_true, if_false, not_true_eq_false, not_false_eq_true, c]
section JI
variable {q : ph_t} {I : iF} {L : lF_} {A : ld_t} {T : Nat → Nat → Bool} {sM : Nat}
theorem kE_next68 (K : mK q I A T sM) {J : iF} (hJ : ∀ c, c ≠ 187 → J c = I c) {v : Int32} {n i : Nat} (hf : fitB A T sM i = true) (hi : i < 2 ^ m8_ sM) (h : ∀ s, s < sM → J 187 s = nI (flN A T sM s i)) : ∃ J', fX3_next_L68 136 v (nI n) (nI i) (nI 0) (hw q J L) = some (.inl (nI n, nI (i + 1), hw q J' L)) ∧ (∀ c, c ≠ 187 → J' c = I c) ∧ ∀ s, s < sM → J' 187 s = nI (flN A T sM s (i + 1)) := by
  obtain ⟨M, R, hT, hsM, W, h24⟩ := id K
  have h8 := p2_8 (m8_le (sM := sM))
  have : ∃ t, fX3_next_L68 136 v (nI n) (nI i) (nI 0) (hw q J L) = some t ∧ ∃ J', t = .inl (nI n, nI (i + 1), hw q J' L) ∧ (∀ c, c ≠ 187 → J' c = I c) ∧ ∀ s, s < sM → J' 187 s = nI (flN A T sM s (i + 1)) := by
    unfold fX3_next_L68
    refine whl_st (α := iF) (fun s J => (nI s, hw q J L)) (fun k J => (∀ c, c ≠ 187 → J c = I c) ∧ ∀ s, s < sM → J 187 s = nI (flN A T sM s (if s < k then i + 1 else i))) sM (a := J) rfl ⟨hJ, fun s hs => by rw [if_neg (by omega)]; exact h s hs⟩ ?_ ?_
    · rintro k U hk ⟨f1, f2⟩
      have KU : mK q U A T sM := K.keep (fun a ha => f1 a (by omega)) (by rw [f1 136 (by decide)]) (by rw [f1 136 (by decide)])
      have eF := kE_doesFollow (L := L) KU (set := i) hk
      have hs1 : U 136 32 = nI sM := KU.2.2.2.1
      have e0 := f2 k hk
      rw [if_neg (by omega)] at e0
      have hl := flN_le (A := A) (T := T) (sM := sM) (s := k) i
      have hl2 := fb_ct_lt (fitB A T sM) i
      have e1 : flN A T sM k (i + 1) = flN A T sM k i + if a_fol A T sM i k then 1 else 0 := fFS_1 hf
      refine ⟨ph_u U 187 k (nI (flN A T sM k (i + 1))), ?_, fun c hc => by rw [pu_ne hc]; exact f1 c hc, fun s hs => ?_⟩
      · rw [e1]
        cases cf : a_fol A T sM i k
        · simp (disch := omega) only [fX3_next_L68_b, fX3_next_L100, nL, nI_add, nJ_mul, nJ_div, nJ_mod, nI_leI, nI_ltI, nI_eq, Option.bind_some, Option.bind_none, Nat.one_ne_zero, Nat.zero_ne_one, Nat.zero_add, Nat.add_zero, if_true, if_false, not_true_eq_false, not_false_eq_true, gm_I M, hs1, show ¬ sM ≤ k by omega, gm70 M, xm187 M, ym187 M, e0, dm M, eF, cf, Bool.false_eq_true]
        · simp (disch := omega) only [fX3_next_L68_b, fX3_next_L100, nL, nI_add, nJ_mul, nJ_div, nJ_mod, nI_leI, nI_ltI, nI_eq, Option.bind_some, Option.bind_none, Nat.one_ne_zero, Nat.zero_ne_one, Nat.zero_add, Nat.add_zero, if_true, if_false, not_true_eq_false, not_false_eq_true, gm_I M, hs1, show ¬ sM ≤ k by omega, gm70 M, xm187 M, ym187 M, e0, dm M, eF, cf]
      · rw [pu_at]
        by_cases e : s = k
        · rw [if_pos e, e, if_pos (by omega)]
        · rw [if_neg e, f2 s hs]
          by_cases e2 : s < k
          · rw [if_pos e2, if_pos (by omega)]
          · rw [if_neg e2, if_neg (by omega)]
    · rintro U ⟨f1, f2⟩
      have hs1 : U 136 32 = nI sM := by rw [f1 136 (by decide)]; exact hsM
      exact ⟨_, by simp (disch := omega) only [fX3_next_L68_b, fX3_next_L108, nL, nI_add, nJ_mul, nJ_div, nJ_mod, nI_leI, nI_ltI, nI_eq, Option.bind_some, Option.bind_none, Nat.one_ne_zero, Nat.zero_ne_one, Nat.zero_add, Nat.add_zero, if_true, if_false, not_true_eq_false, not_false_eq_true, gm_I M, hs1, Nat.le_refl, xr_s] <;> rfl, U, rfl, f1, fun s hs => by rw [f2 s hs, if_pos hs]⟩
  obtain ⟨t, h1, J', rfl, h2⟩ := this
  exact ⟨J', h1, h2⟩
theorem J_next (J : jK q I L A T sM) (hO : trOK A sM) (v : Int32) : jO q I L T sM (fX0_next 64 v) (fX3_next 136 v) := by
  obtain ⟨K, B, V⟩ := id J
  obtain ⟨M, RM, hTM, hsM, W, h24⟩ := id K
  have X := B.1
  have m1 := kE_isLandB (L := L) K
  have x2 := xin_lit (v := v) (lo := 0) (hi := 1) (l := 0) (k := 1) (by decide +kernel) (by decide +kernel) (hw q I L)
  have m2 := in_lit (v := v) (lo := 0) (hi := 1) (l := 0) (k := 1) (by decide +kernel) (by decide +kernel) (hw q I L)
  cases c : isL A
  · have hn := (B.none c).1
    exact jO_same J (r := -(nI 1)) (by simp (disch := omega) only [fX0_next, nL, nI_add, nJ_mul, nJ_div, nJ_mod, nI_leI, nI_ltI, nI_eq, Option.bind_some, Option.bind_none, Nat.one_ne_zero, Nat.zero_ne_one, Nat.zero_add, Nat.add_zero, if_true, if_false, not_true_eq_false, not_false_eq_true, gx2n X hn, nq_0]) (by simp (disch := omega) only [fX3_next, nL, nI_add, nJ_mul, nJ_div, nJ_mod, nI_leI, nI_ltI, nI_eq, Option.bind_some, Option.bind_none, Nat.one_ne_zero, Nat.zero_ne_one, Nat.zero_add, Nat.add_zero, if_true, if_false, not_true_eq_false, not_false_eq_true, dm M, m1, c, Bool.false_eq_true])
  · obtain ⟨KB, hl⟩ := B.K (isL_iff.mp c)
    cases c2 : inR v 0 1
    · exact jO_same J (r := -(nI 1)) (by simp (disch := omega) only [fX0_next, nL, nI_add, nJ_mul, nJ_div, nJ_mod, nI_leI, nI_ltI, nI_eq, Option.bind_some, Option.bind_none, Nat.one_ne_zero, Nat.zero_ne_one, Nat.zero_add, Nat.add_zero, if_true, if_false, not_true_eq_false, not_false_eq_true, gx2 X hl, nq_66, x2, c2, Bool.false_eq_true]) (by simp (disch := omega) only [fX3_next, nL, nI_add, nJ_mul, nJ_div, nJ_mod, nI_leI, nI_ltI, nI_eq, Option.bind_some, Option.bind_none, Nat.one_ne_zero, Nat.zero_ne_one, Nat.zero_add, Nat.add_zero, if_true, if_false, not_true_eq_false, not_false_eq_true, dm M, m1, c, m2, c2, Bool.false_eq_true])
    · have h8 := p2_8 (m8_le (sM := sM))
      have e8 := nJ_shl (k := m8_ sM) (by have := m8_le (sM := sM); omega)
      rw [nL 1] at e8
      have hc := fb_ct_lt (fitB A T sM) (2 ^ m8_ sM)
      have hfl := fun s => flN_le (A := A) (T := T) (sM := sM) (s := s) (2 ^ m8_ sM)
      have hg : ∀ s, grN A T sM s ≤ 256 := fun s => by
        have := hfl s
        unfold grN
        omega
      obtain ⟨nn, hnn⟩ : ∃ nn, nn = (if fb_ct (fitB A T sM) (2 ^ m8_ sM) = 0 then 0 else sM) := ⟨_, rfl⟩
      obtain ⟨r, hr⟩ : ∃ r : Int32, r = (if v = nI 0 then en1 (nxF (grN A T sM) nn) else en2 (nxF (grN A T sM) nn)) := ⟨_, rfl⟩
      have hnx := fun i => nxF_lt (n := i) hg
      obtain ⟨I1, g1, g2, g3, g4, g5⟩ := bK_gathers (L := L) KB hl hO
      have fX : frX I I1 := ⟨fun a ha => g2 a (by omega) (by omega), fun j _ _ _ h25 _ _ _ => g3 j h25⟩
      have K1 := K.X fX
      have B1 := B.keep' (L := L) g2 g3
      obtain ⟨KB1, -⟩ := B1.K (isL_iff.mp c)
      have hs1 : I1 64 1 = nI sM := by rw [g3 1 (by decide)]; exact B.2.2.1
      -- the end of the walk: r
      have hend : ∀ (h : ph_t), fX0_next_L136 64 v (en1 (nxF (grN A T sM) nn)) (en2 (nxF (grN A T sM) nn)) h = some (r, h) := fun h => by
        rw [hr]
        by_cases v0 : v = nI 0
        · simp (disch := omega) only [fX0_next_L136, nL, nI_add, nJ_mul, nJ_div, nJ_mod, nI_leI, nI_ltI, nI_eq, Option.bind_some, Option.bind_none, Nat.one_ne_zero, Nat.zero_ne_one, Nat.zero_add, Nat.add_zero, if_true, if_false, not_true_eq_false, not_false_eq_true, v0]
        · simp (disch := omega) only [fX0_next_L136, nL, nI_add, nJ_mul, nJ_div, nJ_mod, nI_leI, nI_ltI, nI_eq, Option.bind_some, Option.bind_none, Nat.one_ne_zero, Nat.zero_ne_one, Nat.zero_add, Nat.add_zero, if_true, if_false, not_true_eq_false, not_false_eq_true, v0]
      have hend2 : ∀ (h : ph_t), fX3_next_L203 136 v (en1 (nxF (grN A T sM) nn)) (en2 (nxF (grN A T sM) nn)) h = some (r, h) := fun h => by
        rw [hr]
        by_cases v0 : v = nI 0
        · simp (disch := omega) only [fX3_next_L203, nL, nI_add, nJ_mul, nJ_div, nJ_mod, nI_leI, nI_ltI, nI_eq, Option.bind_some, Option.bind_none, Nat.one_ne_zero, Nat.zero_ne_one, Nat.zero_add, Nat.add_zero, if_true, if_false, not_true_eq_false, not_false_eq_true, v0]
        · simp (disch := omega) only [fX3_next_L203, nL, nI_add, nJ_mul, nJ_div, nJ_mod, nI_leI, nI_ltI, nI_eq, Option.bind_some, Option.bind_none, Nat.one_ne_zero, Nat.zero_ne_one, Nat.zero_add, Nat.add_zero, if_true, if_false, not_true_eq_false, not_false_eq_true, v0]
      have mo : ∃ I2, fX3_next 136 v (hw q I1 L) = some (r, hw q I2 L) ∧ ∀ c, c ≠ 187 → I2 c = I1 c := by
        have m1 := kE_isLandB (L := L) K1
        have m2 := in_lit (v := v) (lo := 0) (hi := 1) (l := 0) (k := 1) (by decide +kernel) (by decide +kernel) (hw q I1 L)
        have last : ∀ J : iF, (∀ c, c ≠ 187 → J c = I1 c) → (∀ s, s < sM → J 187 s = nI (flN A T sM s (2 ^ m8_ sM))) → fX3_next_L124 136 v (nI (fb_ct (fitB A T sM) (2 ^ m8_ sM))) (-(nI 2)) (-(nI 2)) (nI 0) (hw q J L) = some (r, hw q J L) := fun J f1 f2 => by
          have hsJ : J 136 32 = nI sM := by rw [f1 136 (by decide)]; exact K1.2.2.2.1
          unfold fX3_next_L124
          refine whl_for (fun s => (en1 (nxF (grN A T sM) s), en2 (nxF (grN A T sM) s), nI s, hw q J L)) nn rfl (fun s hs => ?_) ?_
          · have hn0 : ¬ fb_ct (fitB A T sM) (2 ^ m8_ sM) = 0 := fun z => by rw [hnn, if_pos z] at hs; omega
            rw [hnn, if_neg hn0] at hs
            have hz := hnx s
            have b1 := hfl s
            have b2 := hg s
            have e9 := f2 s hs
            have key : ∀ k0 : Nat, k0 = grN A T sM s → fX3_next_L175 136 v (nI (fb_ct (fitB A T sM) (2 ^ m8_ sM))) (en1 (nxF (grN A T sM) s)) (en2 (nxF (grN A T sM) s)) (nI s) (nI k0) (hw q J L) = some (.inl (en1 (nxF (grN A T sM) (s + 1)), en2 (nxF (grN A T sM) (s + 1)), nI (s + 1), hw q J L)) := fun k0 hk0 => by
              rw [show nxF (grN A T sM) (s + 1) = nxB (grN A T sM) s (nxF (grN A T sM) s) from rfl]
              generalize nxF (grN A T sM) s = o at hz
              subst hk0
              cases o with
              | none =>
                simp (disch := omega) only [fX3_next_L175, fX3_next_L190, fX3_next_L197, nL, nI_add, nJ_mul, nJ_div, nJ_mod, nI_leI, nI_ltI, nI_eq, Option.bind_some, Option.bind_none, Nat.one_ne_zero, Nat.zero_ne_one, Nat.zero_add, Nat.add_zero, if_true, if_false, not_true_eq_false, not_false_eq_true, en1_n, en2_n, nxB, en1_s, en2_s]
              | some z =>
                obtain ⟨z1, z2⟩ := hz z rfl
                have e2 := nI_m2 (p := z.1) (by omega)
                by_cases c9 : grN A T sM s < z.2
                · rw [nxB_1 c9]
                  simp (disch := omega) only [fX3_next_L175, fX3_next_L190, fX3_next_L197, nL, nI_add, nJ_mul, nJ_div, nJ_mod, nI_leI, nI_ltI, nI_eq, Option.bind_some, Option.bind_none, Nat.one_ne_zero, Nat.zero_ne_one, Nat.zero_add, Nat.add_zero, if_true, if_false, not_true_eq_false, not_false_eq_true, en1_s, en2_s, e2, show ¬ z.2 ≤ grN A T sM s by omega]
                · rw [nxB_2 c9]
                  simp (disch := omega) only [fX3_next_L175, fX3_next_L190, fX3_next_L197, nL, nI_add, nJ_mul, nJ_div, nJ_mod, nI_leI, nI_ltI, nI_eq, Option.bind_some, Option.bind_none, Nat.one_ne_zero, Nat.zero_ne_one, Nat.zero_add, Nat.add_zero, if_true, if_false, not_true_eq_false, not_false_eq_true, en1_s, en2_s, e2, show z.2 ≤ grN A T sM s by omega]
            by_cases c8 : flN A T sM s (2 ^ m8_ sM) ≤ fb_ct (fitB A T sM) (2 ^ m8_ sM) - flN A T sM s (2 ^ m8_ sM)
            · have k := key (fb_ct (fitB A T sM) (2 ^ m8_ sM) - flN A T sM s (2 ^ m8_ sM)) (by unfold grN; omega)
              simp (disch := omega) only [fX3_next_L124_b, nL, nI_add, nJ_mul, nJ_div, nJ_mod, nI_leI, nI_ltI, nI_eq, Option.bind_some, Option.bind_none, Nat.one_ne_zero, Nat.zero_ne_one, Nat.zero_add, Nat.add_zero, if_true, if_false, not_true_eq_false, not_false_eq_true, gm_I M, hsJ, show ¬ sM ≤ s by omega, show ¬ fb_ct (fitB A T sM) (2 ^ m8_ sM) ≤ 0 by omega, gm70 M, xm187 M, e9, nJ_sub, c8, k]
            · have k := key (flN A T sM s (2 ^ m8_ sM)) (by unfold grN; omega)
              simp (disch := omega) only [fX3_next_L124_b, nL, nI_add, nJ_mul, nJ_div, nJ_mod, nI_leI, nI_ltI, nI_eq, Option.bind_some, Option.bind_none, Nat.one_ne_zero, Nat.zero_ne_one, Nat.zero_add, Nat.add_zero, if_true, if_false, not_true_eq_false, not_false_eq_true, gm_I M, hsJ, show ¬ sM ≤ s by omega, show ¬ fb_ct (fitB A T sM) (2 ^ m8_ sM) ≤ 0 by omega, gm70 M, xm187 M, e9, nJ_sub, c8, k]
          · by_cases cn : fb_ct (fitB A T sM) (2 ^ m8_ sM) = 0
            · have hz : nn = 0 := by rw [hnn, if_pos cn]
              rw [cn]
              by_cases cs : sM = 0
              · simp (disch := omega) only [fX3_next_L124_b, nL, nI_add, nJ_mul, nJ_div, nJ_mod, nI_leI, nI_ltI, nI_eq, Option.bind_some, Option.bind_none, Nat.one_ne_zero, Nat.zero_ne_one, Nat.zero_add, Nat.add_zero, if_true, if_false, not_true_eq_false, not_false_eq_true, gm_I M, hsJ, show sM ≤ nn by omega, hend2, xr_s]
              · simp (disch := omega) only [fX3_next_L124_b, nL, nI_add, nJ_mul, nJ_div, nJ_mod, nI_leI, nI_ltI, nI_eq, Option.bind_some, Option.bind_none, Nat.one_ne_zero, Nat.zero_ne_one, Nat.zero_add, Nat.add_zero, if_true, if_false, not_true_eq_false, not_false_eq_true, gm_I M, hsJ, show ¬ sM ≤ nn by omega, Nat.le_refl, hend2, xr_s]
            · have hz : nn = sM := by rw [hnn, if_neg cn]
              simp (disch := omega) only [fX3_next_L124_b, nL, nI_add, nJ_mul, nJ_div, nJ_mod, nI_leI, nI_ltI, nI_eq, Option.bind_some, Option.bind_none, Nat.one_ne_zero, Nat.zero_ne_one, Nat.zero_add, Nat.add_zero, if_true, if_false, not_true_eq_false, not_false_eq_true, gm_I M, hsJ, show sM ≤ nn by omega, hend2, xr_s]
        have lp44 : ∀ J : iF, (∀ c, c ≠ 187 → J c = I1 c) → (∀ s, s < sM → J 187 s = nI 0) → ∃ t, fX3_next_L44 136 v (nI 0) (nI 0) (hw q J L) = some t ∧ ∃ I2, t = (r, hw q I2 L) ∧ ∀ c, c ≠ 187 → I2 c = I1 c := fun J f1 f2 => by
          unfold fX3_next_L44
          refine whl_st (α := iF) (fun i J => (nI (fb_ct (fitB A T sM) i), nI i, hw q J L)) (fun i J => (∀ c, c ≠ 187 → J c = I1 c) ∧ ∀ s, s < sM → J 187 s = nI (flN A T sM s i)) (2 ^ m8_ sM) (a := J) rfl ⟨f1, f2⟩ ?_ ?_
          · rintro i U hi ⟨f1, f2⟩
            have KU : mK q U A T sM := K1.keep (fun a ha => f1 a (by omega)) (by rw [f1 136 (by decide)]) (by rw [f1 136 (by decide)])
            have m3 := kE_firstOnes (L := L) KU
            have eF := kE_doesFit (L := L) KU hO (set := i)
            have hci := fb_ct_lt (fitB A T sM) i
            cases cf : fitB A T sM i
            · refine ⟨U, ?_, f1, fun s hs => ?_⟩
              · rw [fb_ct_succ, cf]
                simp (disch := omega) only [fX3_next_L44_b, fX3_next_L108, nL, nI_add, nJ_mul, nJ_div, nJ_mod, nI_leI, nI_ltI, nI_eq, Option.bind_some, Option.bind_none, Nat.one_ne_zero, Nat.zero_ne_one, Nat.zero_add, Nat.add_zero, if_true, if_false, not_true_eq_false, not_false_eq_true, dm M, m3, e8, show ¬ 2 ^ m8_ sM ≤ i by omega, eF, cf, Bool.false_eq_true]
              · rw [f2 s hs]
                unfold flN
                rw [fFS_0 cf]
            · obtain ⟨U', a1, a2, a3⟩ := kE_next68 (L := L) K1 f1 (v := v) (n := fb_ct (fitB A T sM) i + 1) cf hi f2
              refine ⟨U', ?_, a2, a3⟩
              rw [fb_ct_succ, cf]
              simp (disch := omega) only [fX3_next_L44_b, fX3_next_L108, nL, nI_add, nJ_mul, nJ_div, nJ_mod, nI_leI, nI_ltI, nI_eq, Option.bind_some, Option.bind_none, Nat.one_ne_zero, Nat.zero_ne_one, Nat.zero_add, Nat.add_zero, if_true, if_false, not_true_eq_false, not_false_eq_true, dm M, m3, e8, show ¬ 2 ^ m8_ sM ≤ i by omega, eF, cf, a1]
          · rintro U ⟨f1, f2⟩
            have KU : mK q U A T sM := K1.keep (fun a ha => f1 a (by omega)) (by rw [f1 136 (by decide)]) (by rw [f1 136 (by decide)])
            have m3 := kE_firstOnes (L := L) KU
            exact ⟨_, by simp (disch := omega) only [fX3_next_L44_b, nL, nI_add, nJ_mul, nJ_div, nJ_mod, nI_leI, nI_ltI, nI_eq, Option.bind_some, Option.bind_none, Nat.one_ne_zero, Nat.zero_ne_one, Nat.zero_add, Nat.add_zero, if_true, if_false, not_true_eq_false, not_false_eq_true, dm M, m3, e8, Nat.le_refl, last U f1 f2, xr_s] <;> rfl, U, rfl, f1⟩
        have lp23 : ∃ t, fX3_next_L23 136 v (nI 0) (nI 0) (hw q I1 L) = some t ∧ ∃ I2, t = (r, hw q I2 L) ∧ ∀ c, c ≠ 187 → I2 c = I1 c := by
          unfold fX3_next_L23
          refine whl_st (α := iF) (fun i J => (nI i, hw q J L)) (fun i J => (∀ c, c ≠ 187 → J c = I1 c) ∧ ∀ s, s < i → J 187 s = nI 0) 24 (a := I1) rfl ⟨fun _ _ => rfl, fun s hs => by omega⟩ ?_ ?_
          · rintro i U hi ⟨f1, f2⟩
            refine ⟨ph_u U 187 i (nI 0), by simp (disch := omega) only [fX3_next_L23_b, nL, nI_add, nJ_mul, nJ_div, nJ_mod, nI_leI, nI_ltI, nI_eq, Option.bind_some, Option.bind_none, Nat.one_ne_zero, Nat.zero_ne_one, Nat.zero_add, Nat.add_zero, if_true, if_false, not_true_eq_false, not_false_eq_true, show ¬ 24 ≤ i by omega, gm70 M, ym187 M], fun c hc => by rw [pu_ne hc]; exact f1 c hc, fun s hs => ?_⟩
            rw [pu_at]
            by_cases e : s = i
            · rw [if_pos e]
            · rw [if_neg e]; exact f2 s (by omega)
          · rintro U ⟨f1, f2⟩
            obtain ⟨t, a1, I2, rfl, a2⟩ := lp44 U f1 (fun s hs => f2 s (by omega))
            exact ⟨_, by simp (disch := omega) only [fX3_next_L23_b, nL, nI_add, nJ_mul, nJ_div, nJ_mod, nI_leI, nI_ltI, nI_eq, Option.bind_some, Option.bind_none, Nat.one_ne_zero, Nat.zero_ne_one, Nat.zero_add, Nat.add_zero, if_true, if_false, not_true_eq_false, not_false_eq_true, Nat.le_refl, a1, xr_s] <;> rfl, I2, rfl, a2⟩
        obtain ⟨t, a1, I2, rfl, a2⟩ := lp23
        exact ⟨I2, by simp (disch := omega) only [fX3_next, nL, nI_add, nJ_mul, nJ_div, nJ_mod, nI_leI, nI_ltI, nI_eq, Option.bind_some, Option.bind_none, Nat.one_ne_zero, Nat.zero_ne_one, Nat.zero_add, Nat.add_zero, if_true, if_false, not_true_eq_false, not_false_eq_true, dm M, m1, c, m2, c2, a1], a2⟩
      obtain ⟨I2, mo1, mo2⟩ := mo
      refine jO_mk (r := r) (I1 := I1) (L1 := L) ?_ fX frXL.rf B1 V ⟨I2, L, mo1, frT_row (fun a a1 a2 => mo2 a (by omega)) (fun j _ => by rw [mo2 136 (by decide)]), frTL.rf, K1.keep (fun a ha => mo2 a (by omega)) (by rw [mo2 136 (by decide)]) (by rw [mo2 136 (by decide)])⟩
      have arr0 : ∀ s, s < 2 ^ m8_ sM → fitB A T sM s = true → (I1 134 (fb_ct (fitB A T sM) s)).toUInt32.toNat = s := fun s hs hf => by
        rw [g5 s hs hf, nI_un (by omega)]
      obtain ⟨arr, ha⟩ : ∃ arr : Nat → Nat, ∀ j, (I1 134 j).toUInt32.toNat = arr j := ⟨_, fun _ => rfl⟩
      have hI : ∀ j, I1 134 j = nI (arr j) := fun j => by rw [← ha, nI_back]
      simp only [ha] at arr0
      have in54 : ∀ s, s < sM → fX0_next_L54 64 v (en1 (nxF (grN A T sM) s)) (en2 (nxF (grN A T sM) s)) (nI s) (nI 0) (nI 0) (hw q I1 L) = some (.inl (en1 (nxF (grN A T sM) (s + 1)), en2 (nxF (grN A T sM) (s + 1)), nI (s + 1), hw q I1 L)) := fun s hs => by
        have hz := hnx s
        have b1 := hfl s
        have b2 := hg s
        have fF : fo_ (fun j x => x + if a_fol A T sM (arr j) s then 1 else 0) 0 (fb_ct (fitB A T sM) (2 ^ m8_ sM)) = flN A T sM s (2 ^ m8_ sM) := fFS_arr (f := fun set x => x + if a_fol A T sM set s then 1 else 0) _ arr0
        unfold fX0_next_L54
        refine whl_for (fun j => (nI (fo_ (fun j x => x + if a_fol A T sM (arr j) s then 1 else 0) 0 j), nI j, hw q I1 L)) (fb_ct (fitB A T sM) (2 ^ m8_ sM)) rfl (fun j hj => ?_) ?_
        · have eF := bK_follows (L := L) KB1 hl (set := arr j) hs
          rw [show fo_ (fun j x => x + if a_fol A T sM (arr j) s then 1 else 0) 0 (j + 1) = fo_ (fun j x => x + if a_fol A T sM (arr j) s then 1 else 0) 0 j + (if a_fol A T sM (arr j) s then 1 else 0) from rfl]
          cases cf : a_fol A T sM (arr j) s
          · simp (disch := omega) only [fX0_next_L54_b, fX0_next_L86, nm_, nL, nI_add, nJ_mul, nJ_div, nJ_mod, nI_leI, nI_ltI, nI_eq, Option.bind_some, Option.bind_none, Nat.one_ne_zero, Nat.zero_ne_one, Nat.zero_add, Nat.add_zero, if_true, if_false, not_true_eq_false, not_false_eq_true, gx_I X, g4, show ¬ fb_ct (fitB A T sM) (2 ^ m8_ sM) ≤ j by omega, gx24 X, xx134 X, hI, dx X, eF, cf, Bool.false_eq_true]
          · simp (disch := omega) only [fX0_next_L54_b, fX0_next_L86, nm_, nL, nI_add, nJ_mul, nJ_div, nJ_mod, nI_leI, nI_ltI, nI_eq, Option.bind_some, Option.bind_none, Nat.one_ne_zero, Nat.zero_ne_one, Nat.zero_add, Nat.add_zero, if_true, if_false, not_true_eq_false, not_false_eq_true, gx_I X, g4, show ¬ fb_ct (fitB A T sM) (2 ^ m8_ sM) ≤ j by omega, gx24 X, xx134 X, hI, dx X, eF, cf]
        · rw [fF]
          have hgr : max (flN A T sM s (2 ^ m8_ sM)) (fb_ct (fitB A T sM) (2 ^ m8_ sM) - flN A T sM s (2 ^ m8_ sM)) = grN A T sM s := rfl
          rw [show nxF (grN A T sM) (s + 1) = nxB (grN A T sM) s (nxF (grN A T sM) s) from rfl]
          generalize nxF (grN A T sM) s = o at hz
          cases o with
          | none =>
            simp (disch := omega) only [fX0_next_L54_b, fX0_next_L124, fX0_next_L130, nm_, nL, nI_add, nJ_mul, nJ_div, nJ_mod, nI_leI, nI_ltI, nI_eq, Option.bind_some, Option.bind_none, Nat.one_ne_zero, Nat.zero_ne_one, Nat.zero_add, Nat.add_zero, if_true, if_false, not_true_eq_false, not_false_eq_true, gx_I X, g4, Nat.le_refl, nJ_sub, mx_n, hgr, en1_n, en2_n, nxB, en1_s, en2_s, xr_s]
          | some z =>
            obtain ⟨z1, z2⟩ := hz z rfl
            have e2 := nI_m2 (p := z.1) (by omega)
            by_cases c9 : grN A T sM s < z.2
            · rw [nxB_1 c9]
              simp (disch := omega) only [fX0_next_L54_b, fX0_next_L124, fX0_next_L130, nm_, nL, nI_add, nJ_mul, nJ_div, nJ_mod, nI_leI, nI_ltI, nI_eq, Option.bind_some, Option.bind_none, Nat.one_ne_zero, Nat.zero_ne_one, Nat.zero_add, Nat.add_zero, if_true, if_false, not_true_eq_false, not_false_eq_true, gx_I X, g4, Nat.le_refl, nJ_sub, mx_n, hgr, en1_s, en2_s, e2, c9, xr_s]
            · rw [nxB_2 c9]
              simp (disch := omega) only [fX0_next_L54_b, fX0_next_L124, fX0_next_L130, nm_, nL, nI_add, nJ_mul, nJ_div, nJ_mod, nI_leI, nI_ltI, nI_eq, Option.bind_some, Option.bind_none, Nat.one_ne_zero, Nat.zero_ne_one, Nat.zero_add, Nat.add_zero, if_true, if_false, not_true_eq_false, not_false_eq_true, gx_I X, g4, Nat.le_refl, nJ_sub, mx_n, hgr, en1_s, en2_s, e2, c9, xr_s]
      have lp32 : fX0_next_L32 64 v (-(nI 2)) (-(nI 2)) (nI 0) (hw q I1 L) = some (r, hw q I1 L) := by
        unfold fX0_next_L32
        refine whl_for (fun s => (en1 (nxF (grN A T sM) s), en2 (nxF (grN A T sM) s), nI s, hw q I1 L)) nn rfl (fun s hs => ?_) ?_
        · have hn0 : ¬ fb_ct (fitB A T sM) (2 ^ m8_ sM) = 0 := fun z => by rw [hnn, if_pos z] at hs; omega
          rw [hnn, if_neg hn0] at hs
          have k := in54 s hs
          simp (disch := omega) only [fX0_next_L32_b, nL, nI_add, nJ_mul, nJ_div, nJ_mod, nI_leI, nI_ltI, nI_eq, Option.bind_some, Option.bind_none, Nat.one_ne_zero, Nat.zero_ne_one, Nat.zero_add, Nat.add_zero, if_true, if_false, not_true_eq_false, not_false_eq_true, gx_I X, hs1, show ¬ sM ≤ s by omega, g4, show ¬ fb_ct (fitB A T sM) (2 ^ m8_ sM) ≤ 0 by omega, k]
        · by_cases cn : fb_ct (fitB A T sM) (2 ^ m8_ sM) = 0
          · have hz : nn = 0 := by rw [hnn, if_pos cn]
            have g4' := g4
            rw [cn] at g4'
            by_cases cs : sM = 0
            · simp (disch := omega) only [fX0_next_L32_b, nL, nI_add, nJ_mul, nJ_div, nJ_mod, nI_leI, nI_ltI, nI_eq, Option.bind_some, Option.bind_none, Nat.one_ne_zero, Nat.zero_ne_one, Nat.zero_add, Nat.add_zero, if_true, if_false, not_true_eq_false, not_false_eq_true, gx_I X, hs1, show sM ≤ nn by omega, hend, xr_s]
            · simp (disch := omega) only [fX0_next_L32_b, nL, nI_add, nJ_mul, nJ_div, nJ_mod, nI_leI, nI_ltI, nI_eq, Option.bind_some, Option.bind_none, Nat.one_ne_zero, Nat.zero_ne_one, Nat.zero_add, Nat.add_zero, if_true, if_false, not_true_eq_false, not_false_eq_true, gx_I X, hs1, show ¬ sM ≤ nn by omega, g4', Nat.le_refl, hend, xr_s]
          · have hz : nn = sM := by rw [hnn, if_neg cn]
            simp (disch := omega) only [fX0_next_L32_b, nL, nI_add, nJ_mul, nJ_div, nJ_mod, nI_leI, nI_ltI, nI_eq, Option.bind_some, Option.bind_none, Nat.one_ne_zero, Nat.zero_ne_one, Nat.zero_add, Nat.add_zero, if_true, if_false, not_true_eq_false, not_false_eq_true, gx_I X, hs1, show sM ≤ nn by omega, hend, xr_s]
      simp (disch := omega) only [fX0_next, nL, nI_add, nJ_mul, nJ_div, nJ_mod, nI_leI, nI_ltI, nI_eq, Option.bind_some, Option.bind_none, Nat.one_ne_zero, Nat.zero_ne_one, Nat.zero_add, Nat.add_zero, if_true, if_false, not_true_eq_false, not_false_eq_true, gx2 X hl, nq_66, x2, c2, dx X, g1, lp32]
end JI
