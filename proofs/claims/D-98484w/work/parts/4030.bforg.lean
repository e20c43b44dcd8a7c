/-! P2 BFORG: TruthBridge: a fact is forgotten -/
theorem wt_bit : ∀ f, f < 6 → ∀ i, i < 64 → btl (wt_ f) i = !i.testBit f := by decide +kernel
theorem xr_lo : ∀ f, f < 6 → ∀ i, i < 64 → (i ^^^ 2 ^ f = if i.testBit f then i - 2 ^ f else i + 2 ^ f) ∧ (i.testBit f = true → 2 ^ f ≤ i) ∧ (i.testBit f = false → i + 2 ^ f < 64) ∧ (2 ^ f ≤ i → (i - 2 ^ f).testBit f = !i.testBit f) := by decide +kernel
theorem xr_w : ∀ f, f < 6 → ∀ w, w < 256 → (w ^^^ 2 ^ f) / 64 = w / 64 ∧ (w ^^^ 2 ^ f) % 64 = (w % 64) ^^^ 2 ^ f := by decide +kernel
theorem xr_hi : ∀ f, f < 8 → 6 ≤ f → ∀ w, w < 256 → (w ^^^ 2 ^ f) / 64 = (w / 64) ^^^ 2 ^ (f - 6) ∧ (w ^^^ 2 ^ f) % 64 = w % 64 := by decide +kernel
/-- a row's long, in which a fact is forgotten -/
theorem fg_bit {x : Int64} {f i : Nat} (hf : f < 6) (hi : i < 64) : btl (x ||| (((lu_ x (il_ 1 (nI f))) &&& wt_ f) ||| (ll_ (x &&& wt_ f) (il_ 1 (nI f))))) i = (btl x i || btl x (i ^^^ 2 ^ f)) := by
  have h2 : (2 : Nat) ^ f < 64 := Nat.lt_of_le_of_lt (Nat.pow_le_pow_right (by decide) (show f ≤ 5 by omega)) (by decide)
  rw [nJ_shl (by omega), bl_or, bl_or, bl_and, bl_ushr _ h2, bl_shl _ h2 _ hi, bl_and, wt_bit f hf i hi]
  obtain ⟨e1, e2, e3, e4⟩ := xr_lo f hf i hi
  congr 1
  by_cases c : 2 ^ f ≤ i
  · rw [decide_eq_true c, Bool.true_and, wt_bit f hf _ (Nat.lt_of_le_of_lt (Nat.sub_le _ _) hi), e4 c, e1]
    cases d : i.testBit f
    · simp [Nat.add_comm]
    · simp
  · have d : i.testBit f = false := by
      cases d : i.testBit f
      · rfl
      · exact absurd (e2 d) c
    rw [decide_eq_false c, e1, d]
    simp [Nat.add_comm]
def stpF (J : lF_) (g who k d : Nat) : lF_ := ph_u (ph_u J (g + 11) (4 * who + k) (J (g + 11) (4 * who + k) ||| J (g + 11) (4 * who + k + d))) (g + 11) (4 * who + k + d) (ph_u J (g + 11) (4 * who + k) (J (g + 11) (4 * who + k) ||| J (g + 11) (4 * who + k + d)) (g + 11) (4 * who + k + d) ||| ph_u J (g + 11) (4 * who + k) (J (g + 11) (4 * who + k) ||| J (g + 11) (4 * who + k + d)) (g + 11) (4 * who + k))
theorem stp_at {J : lF_} {g who k d j : Nat} (hd : 1 ≤ d) : stpF J g who k d (g + 11) j = if j = 4 * who + k + d then J (g + 11) (4 * who + k + d) ||| (J (g + 11) (4 * who + k) ||| J (g + 11) (4 * who + k + d)) else if j = 4 * who + k then J (g + 11) (4 * who + k) ||| J (g + 11) (4 * who + k + d) else J (g + 11) j := by
  unfold stpF
  rw [pu_at, pu_nk (show 4 * who + k + d ≠ 4 * who + k by omega), pu_eq, pu_at]
section BF
variable {q : ph_t} {I : iF} {L : lF_} {A : ld_t} {T : Nat → Nat → Bool} {sM g : Nat}
theorem bE_fgLo (G : GS q g) {who f : Nat} (hq : who < 7) (hf : f < 6) {B : Nat → Bool} (hB : rL_ (L (g + 11)) (4 * who) B) : ∃ L', fX1_forgetsFact_L13 g (nI f) (nI (4 * who)) (nI (4 * who)) (hw q I L) = some ((), hw q I L') ∧ hdG g L L' who ∧ rL_ (L' (g + 11)) (4 * who) (fun w => B w || B (w ^^^ 2 ^ f)) := by
  have eW : xW (some 28) (nI f) = some (wt_ f) := by
    have h := nJ_pin (n := f) (N := 6) hf (by decide)
    unfold xW
    rw [if_pos ⟨rfl, h.1, by omega⟩, nI_clamp (by omega)]
  unfold fX1_forgetsFact_L13
  have : ∃ t, whl (fun s_1 : Int32 × ph_t => fX1_forgetsFact_L13_b g (nI f) (nI (4 * who)) s_1.1 s_1.2) (nI (4 * who), hw q I L) = some t ∧ ∃ L', t = ((), hw q I L') ∧ hdG g L L' who ∧ ∀ k, k < 4 → L' (g + 11) (4 * who + k) = L (g + 11) (4 * who + k) ||| (((lu_ (L (g + 11) (4 * who + k)) (il_ 1 (nI f))) &&& wt_ f) ||| (ll_ (L (g + 11) (4 * who + k) &&& wt_ f) (il_ 1 (nI f)))) := by
    refine whl_st (α := lF_) (fun i J => (nI (4 * who + i), hw q I J)) (fun i J => hdG g L J who ∧ ∀ k, k < 4 → J (g + 11) (4 * who + k) = if k < i then L (g + 11) (4 * who + k) ||| (((lu_ (L (g + 11) (4 * who + k)) (il_ 1 (nI f))) &&& wt_ f) ||| (ll_ (L (g + 11) (4 * who + k) &&& wt_ f) (il_ 1 (nI f)))) else L (g + 11) (4 * who + k)) 4 (a := L) rfl ⟨hdG.rf, fun k _ => by rw [if_neg (by omega)]⟩ ?_ ?_
    · rintro i J hi ⟨f1, f2⟩
      have e1 := f2 i hi
      rw [if_neg (by omega)] at e1
      refine ⟨_, by simp (disch := omega) only [fX1_forgetsFact_L13_b, nL, nI_add, nJ_mul, nJ_div, nJ_mod, nI_leI, nI_ltI, nI_eq, Option.bind_some, Option.bind_none, Nat.one_ne_zero, Nat.zero_ne_one, Nat.zero_add, Nat.add_zero, if_true, if_false, not_true_eq_false, not_false_eq_true, gg19 G, xg19 G, yg19 G, eW, show ¬ 4 * who + 4 ≤ 4 * who + i by omega, Nat.add_assoc] <;> rfl, f1.up (by omega), fun k hk => ?_⟩
      rw [e1, pu_at]
      by_cases c2 : k = i
      · subst c2
        rw [if_pos rfl, if_pos (by omega)]
        rfl
      · rw [if_neg (by omega), f2 k hk]
        by_cases c3 : k < i
        · rw [if_pos c3, if_pos (by omega)]
        · rw [if_neg c3, if_neg (by omega)]
    · rintro J ⟨f1, f2⟩
      exact ⟨_, by simp (disch := omega) only [fX1_forgetsFact_L13_b, nL, nI_add, nJ_mul, nJ_div, nJ_mod, nI_leI, nI_ltI, nI_eq, Option.bind_some, Option.bind_none, Nat.one_ne_zero, Nat.zero_ne_one, Nat.zero_add, Nat.add_zero, if_true, if_false, not_true_eq_false, not_false_eq_true, Nat.le_refl, xr_s] <;> rfl, J, rfl, f1, fun k hk => by rw [f2 k hk, if_pos hk]⟩
  obtain ⟨t, h1, L', rfl, h2, h3⟩ := this
  refine ⟨L', h1, h2, fun w hw_ => ?_⟩
  obtain ⟨x1, x2⟩ := xr_w f hf w hw_
  show _ = (B w || B (w ^^^ 2 ^ f))
  rw [h3 _ (by omega), fg_bit hf (by omega), hB w hw_, ← hB (w ^^^ 2 ^ f) (by
    have : (w ^^^ 2 ^ f) / 64 < 4 := by omega
    omega), x1, x2]
theorem bE_fgHi (G : GS q g) {who f : Nat} (hq : who < 7) (hf : f = 6 ∨ f = 7) {B : Nat → Bool} (hB : rL_ (L (g + 11)) (4 * who) B) : ∃ L', fX1_forgetsFact_L89 g (nI (4 * who)) (nI (2 ^ (f - 6))) (nI 0) (hw q I L) = some ((), hw q I L') ∧ hdG g L L' who ∧ rL_ (L' (g + 11)) (4 * who) (fun w => B w || B (w ^^^ 2 ^ f)) := by
  have key : ∃ L', fX1_forgetsFact_L89 g (nI (4 * who)) (nI (2 ^ (f - 6))) (nI 0) (hw q I L) = some ((), hw q I L') ∧ hdG g L L' who ∧ ∀ k, k < 4 → ∀ i, i < 64 → btl (L' (g + 11) (4 * who + k)) i = (btl (L (g + 11) (4 * who + k)) i || btl (L (g + 11) (4 * who + (k ^^^ 2 ^ (f - 6)))) i) := by
    unfold fX1_forgetsFact_L89
    have done : ∀ (J : lF_) (d : Nat), whl (fun s_1 : Int32 × ph_t => fX1_forgetsFact_L89_b g (nI (4 * who)) (nI d) s_1.1 s_1.2) (nI 4, hw q I J) = some ((), hw q I J) := fun J d => whl_end (by simp (disch := omega) only [fX1_forgetsFact_L89_b, nL, nI_add, nJ_mul, nJ_div, nJ_mod, nI_leI, nI_ltI, nI_eq, Option.bind_some, Option.bind_none, Nat.one_ne_zero, Nat.zero_ne_one, Nat.zero_add, Nat.add_zero, if_true, if_false, not_true_eq_false, not_false_eq_true, Nat.le_refl, xr_s])
    have go : ∀ (J : lF_) (k d : Nat), 1 ≤ d → k + d < 4 → nI k &&& nI d = nI 0 → whl (fun s_1 : Int32 × ph_t => fX1_forgetsFact_L89_b g (nI (4 * who)) (nI d) s_1.1 s_1.2) (nI k, hw q I J) = whl (fun s_1 : Int32 × ph_t => fX1_forgetsFact_L89_b g (nI (4 * who)) (nI d) s_1.1 s_1.2) (nI (k + 1), hw q I (stpF J g who k d)) := fun J k d h1 h2 h3 => by
      rw [whl_eq]
      simp (disch := omega) only [fX1_forgetsFact_L89_b, fX1_forgetsFact_L154, nL, nI_add, nJ_mul, nJ_div, nJ_mod, nI_leI, nI_ltI, nI_eq, Option.bind_some, Option.bind_none, Nat.one_ne_zero, Nat.zero_ne_one, Nat.zero_add, Nat.add_zero, if_true, if_false, not_true_eq_false, not_false_eq_true, h3, gg19 G, xg19 G, yg19 G, show ¬ 4 ≤ k by omega]
      rfl
    have sk : ∀ (J : lF_) (k d : Nat), k < 4 → ¬ nI k &&& nI d = nI 0 → whl (fun s_1 : Int32 × ph_t => fX1_forgetsFact_L89_b g (nI (4 * who)) (nI d) s_1.1 s_1.2) (nI k, hw q I J) = whl (fun s_1 : Int32 × ph_t => fX1_forgetsFact_L89_b g (nI (4 * who)) (nI d) s_1.1 s_1.2) (nI (k + 1), hw q I J) := fun J k d h1 h3 => by
      rw [whl_eq]
      simp (disch := omega) only [fX1_forgetsFact_L89_b, fX1_forgetsFact_L154, nL, nI_add, nJ_mul, nJ_div, nJ_mod, nI_leI, nI_ltI, nI_eq, Option.bind_some, Option.bind_none, Nat.one_ne_zero, Nat.zero_ne_one, Nat.zero_add, Nat.add_zero, if_true, if_false, not_true_eq_false, not_false_eq_true, h3, show ¬ 4 ≤ k by omega]
    have up : ∀ {J : lF_} {k d : Nat}, hdG g L J who → 1 ≤ d → k + d < 4 → hdG g L (stpF J g who k d) who := fun h h1 h2 => (h.up (by omega)).up (by omega)
    rcases hf with rfl | rfl
    · refine ⟨stpF (stpF L g who 0 1) g who 2 1, ?_, up (up hdG.rf (by omega) (by omega)) (by omega) (by omega), ?_⟩
      · show whl _ (nI 0, _) = _
        rw [show (2 : Nat) ^ (6 - 6) = 1 from rfl, go L 0 1 (by omega) (by omega) (by decide +kernel), sk _ (0 + 1) 1 (by omega) (by decide +kernel), go _ (0 + 1 + 1) 1 (by omega) (by omega) (by decide +kernel), sk _ (0 + 1 + 1 + 1) 1 (by omega) (by decide +kernel)]
        exact done _ 1
      · intro k hk i hi
        have : k = 0 ∨ k = 1 ∨ k = 2 ∨ k = 3 := by omega
        have h1 : (1 : Nat) ≤ 1 := by decide
        rcases this with rfl | rfl | rfl | rfl <;> simp (disch := omega) only [stp_at h1, if_pos, if_neg, bl_or, Nat.add_zero, Nat.add_assoc, Nat.reduceAdd, if_true, if_false] <;> simp only [show (0 ^^^ 2 ^ (6 - 6) : Nat) = 1 from rfl, show (1 ^^^ 2 ^ (6 - 6) : Nat) = 0 from rfl, show (2 ^^^ 2 ^ (6 - 6) : Nat) = 3 from rfl, show (3 ^^^ 2 ^ (6 - 6) : Nat) = 2 from rfl] <;> (generalize btl (L (g + 11) (4 * who)) i = x0; generalize btl (L (g + 11) (4 * who + 1)) i = x1; generalize btl (L (g + 11) (4 * who + 2)) i = x2; generalize btl (L (g + 11) (4 * who + 3)) i = x3; cases x0 <;> cases x1 <;> cases x2 <;> cases x3 <;> rfl)
    · refine ⟨stpF (stpF L g who 0 2) g who 1 2, ?_, up (up hdG.rf (by omega) (by omega)) (by omega) (by omega), ?_⟩
      · show whl _ (nI 0, _) = _
        rw [show (2 : Nat) ^ (7 - 6) = 2 from rfl, go L 0 2 (by omega) (by omega) (by decide +kernel), go _ (0 + 1) 2 (by omega) (by omega) (by decide +kernel), sk _ (0 + 1 + 1) 2 (by omega) (by decide +kernel), sk _ (0 + 1 + 1 + 1) 2 (by omega) (by decide +kernel)]
        exact done _ 2
      · intro k hk i hi
        have : k = 0 ∨ k = 1 ∨ k = 2 ∨ k = 3 := by omega
        have h1 : (1 : Nat) ≤ 2 := by decide
        rcases this with rfl | rfl | rfl | rfl <;> simp (disch := omega) only [stp_at h1, if_pos, if_neg, bl_or, Nat.add_zero, Nat.add_assoc, Nat.reduceAdd, if_true, if_false] <;> simp only [show (0 ^^^ 2 ^ (7 - 6) : Nat) = 2 from rfl, show (1 ^^^ 2 ^ (7 - 6) : Nat) = 3 from rfl, show (2 ^^^ 2 ^ (7 - 6) : Nat) = 0 from rfl, show (3 ^^^ 2 ^ (7 - 6) : Nat) = 1 from rfl] <;> (generalize btl (L (g + 11) (4 * who)) i = x0; generalize btl (L (g + 11) (4 * who + 1)) i = x1; generalize btl (L (g + 11) (4 * who + 2)) i = x2; generalize btl (L (g + 11) (4 * who + 3)) i = x3; cases x0 <;> cases x1 <;> cases x2 <;> cases x3 <;> rfl)
  obtain ⟨L', h1, h2, h3⟩ := key
  refine ⟨L', h1, h2, fun w hw_ => ?_⟩
  obtain ⟨x1, x2⟩ := xr_hi f (by omega) (by omega) w hw_
  have h9 : (w ^^^ 2 ^ f) < 256 := Nat.xor_lt_two_pow (n := 8) hw_ (Nat.pow_lt_pow_right (by decide) (by omega))
  show _ = (B w || B (w ^^^ 2 ^ f))
  rw [h3 _ (by omega) _ (by omega), hB w hw_, ← hB (w ^^^ 2 ^ f) h9, x1, x2]
theorem bE_forgets (G : GS q g) {who f : Nat} (hq : who < 7) (hf : f < 8) {B : Nat → Bool} (hB : rL_ (L (g + 11)) (4 * who) B) : ∃ L', fX1_forgetsFact g (nI who) (nI f) (hw q I L) = some ((), hw q I L') ∧ hdG g L L' who ∧ rL_ (L' (g + 11)) (4 * who) (fun w => B w || B (w ^^^ 2 ^ f)) := by
  by_cases c : f < 6
  · obtain ⟨L', h1, h2⟩ := bE_fgLo (I := I) G hq c hB
    exact ⟨L', by simp (disch := omega) only [fX1_forgetsFact, nm_, nL, nI_add, nJ_mul, nJ_div, nJ_mod, nI_leI, nI_ltI, nI_eq, Option.bind_some, Option.bind_none, Nat.one_ne_zero, Nat.zero_ne_one, Nat.zero_add, Nat.add_zero, if_true, if_false, not_true_eq_false, not_false_eq_true, show ¬ 6 ≤ f by omega, h1], h2⟩
  · obtain ⟨L', h1, h2⟩ := bE_fgHi (I := I) (f := f) G hq (by omega) hB
    refine ⟨L', ?_, h2⟩
    by_cases c6 : f = 6
    · subst c6
      simp only [Nat.sub_self, Nat.pow_zero] at h1
      simp (disch := omega) only [fX1_forgetsFact, fX1_forgetsFact_L84, nm_, nL, nI_add, nJ_mul, nJ_div, nJ_mod, nI_leI, nI_ltI, nI_eq, Option.bind_some, Option.bind_none, Nat.one_ne_zero, Nat.zero_ne_one, Nat.zero_add, Nat.add_zero, if_true, if_false, not_true_eq_false, not_false_eq_true, Nat.le_refl, h1]
    · have : f = 7 := by omega
      subst this
      simp only [show (2 : Nat) ^ (7 - 6) = 2 from rfl] at h1
      simp (disch := omega) only [fX1_forgetsFact, fX1_forgetsFact_L84, nm_, nL, nI_add, nJ_mul, nJ_div, nJ_mod, nI_leI, nI_ltI, nI_eq, Option.bind_some, Option.bind_none, Nat.one_ne_zero, Nat.zero_ne_one, Nat.zero_add, Nat.add_zero, if_true, if_false, not_true_eq_false, not_false_eq_true, show 6 ≤ 7 by omega, show ¬ 7 = 6 by omega, h1]
end BF
