/-! P2 BLEAF: TruthBridge's leaves -/
theorem lc_b1 {b : Bool} : (lc_ (if b then (1 : Int64) else 0) 1 = nI 0) = (b = true) := by cases b <;> decide +kernel
theorem lc_z {x : Int64} : (lc_ x 0 = nI 0) = (x = 0) := propext (by rw [← nJ_0]; exact lg_cmp_eq x 0)
theorem bE_has {x : Int32} {k : Nat} (h : k < 32) {g : ph_t} : fX0_has x (nI k) g = some (nI (if bt x k then 1 else 0), g) := by
  unfold fX0_has
  rw [bt_is h]
  cases bt x k
  · exact if_pos (by decide)
  · exact if_neg (by decide)
theorem bE_hasN {w f : Nat} (hf : f < 32) {g : ph_t} : fX0_has (nI w) (nI f) g = some (nI (if w.testBit f then 1 else 0), g) := by
  rw [bE_has hf, bt_nI _ _ hf]
/-- how many worlds, by rows of 64 -/
theorem ctl_rows {row : Nat → Int64} {base : Nat} {B : Nat → Bool} (h : rL_ row base B) {k : Nat} (hk : k < 4) : fb_ct B (64 * (k + 1)) = fb_ct B (64 * k) + fb_ct (btl (row (base + k))) 64 := by
  rw [show 64 * (k + 1) = 64 * k + 64 by omega, fb_ct_split]
  congr 1
  refine fb_ct_cong fun i hi => ?_
  have := h (64 * k + i) (by omega)
  rw [show (64 * k + i) / 64 = k by omega, show (64 * k + i) % 64 = i by omega] at this
  exact this.symm
theorem ctl_z {x : Int64} : x = 0 ↔ fb_ct (btl x) 64 = 0 := by
  rw [fb_ct_zero]
  exact ⟨fun h k _ => by rw [h, bl_0], fun h => bl_ext fun i hi => by rw [h i hi, bl_0]⟩
theorem rL_an {row row' : Nat → Int64} {b b' : Nat} {H B : Nat → Bool} (h : rL_ row b H) (h' : rL_ row' b' B) : rL_ (fun k => row (b + k) &&& (row' (b' + k) ^^^ (-1))) 0 (fun w => H w && !B w) := by
  intro w hw_
  show btl (row (b + (0 + w / 64)) &&& (row' (b' + (0 + w / 64)) ^^^ (-1))) (w % 64) = _
  rw [Nat.zero_add, bl_and, bl_not (by omega), h w hw_, h' w hw_]
theorem rL_cong {row : Nat → Int64} {base : Nat} {B B' : Nat → Bool} (h : rL_ row base B) (e : ∀ w, w < 256 → B w = B' w) : rL_ row base B' := fun w hw_ => (h w hw_).trans (e w hw_)
/-- no world of 256: no row has one -/
theorem ctl_any {row : Nat → Int64} {B : Nat → Bool} (h : rL_ row 0 B) : anyB (fun k => decide (¬ row k = 0)) 4 = !decide (fb_ct B 256 = 0) := by
  have c0 := ctl_rows h (k := 0) (by decide)
  have c1 := ctl_rows h (k := 1) (by decide)
  have c2 := ctl_rows h (k := 2) (by decide)
  have c3 := ctl_rows h (k := 3) (by decide)
  have e0 : fb_ct B (64 * 0) = 0 := rfl
  simp only [Nat.zero_add, Nat.reduceAdd, Nat.reduceMul] at c0 c1 c2 c3 e0
  have z0 := ctl_z (x := row 0)
  have z1 := ctl_z (x := row 1)
  have z2 := ctl_z (x := row 2)
  have z3 := ctl_z (x := row 3)
  have key : (row 0 = 0 ∧ row 1 = 0 ∧ row 2 = 0 ∧ row 3 = 0) ↔ fb_ct B 256 = 0 := by
    rw [z0, z1, z2, z3]
    omega
  simp only [anyB, Bool.false_or]
  by_cases d : fb_ct B 256 = 0
  · obtain ⟨d0, d1, d2, d3⟩ := key.mpr d
    rw [decide_eq_true d, d0, d1, d2, d3]
    decide
  · rw [decide_eq_false d]
    by_cases d0 : row 0 = 0
    · by_cases d1 : row 1 = 0
      · by_cases d2 : row 2 = 0
        · by_cases d3 : row 3 = 0
          · exact absurd (key.mp ⟨d0, d1, d2, d3⟩) d
          · simp [d3]
        · simp [d2]
      · simp [d1]
    · simp [d0]
theorem all_any {p : Nat → Bool} : ∀ n, allB p n = !anyB (fun w => !p w) n
  | 0 => rfl
  | n + 1 => by simp [allB, anyB, all_any n]
section BL
variable {q : ph_t} {I : iF} {L : lF_} {A : ld_t} {T : Nat → Nat → Bool} {sM g : Nat}
theorem bE_isSo (X : XS q) (hT : tlR (L 65) sM T) {s w : Nat} (hs : s < sM) (hw_ : w < 256) (hM : sM ≤ 24) : fX0_isSo 64 (nI s) (nI w) (hw q I L) = some (nI (if T s w then 1 else 0), hw q I L) := by
  have e : btl (L 65 (4 * s + w / 64)) (w % 64) = T s w := hT s hs w hw_
  cases c : T s w
  · simp (disch := omega) only [fX0_isSo, nL, nI_add, nJ_mul, nJ_div, nJ_mod, nI_leI, nI_ltI, nI_eq, Option.bind_some, Option.bind_none, Nat.one_ne_zero, Nat.zero_ne_one, Nat.zero_add, Nat.add_zero, if_true, if_false, not_true_eq_false, not_false_eq_true, gx0 X, xx65 X, bl_bit, e, c, lc_b1, Bool.false_eq_true, rz_0]
  · simp (disch := omega) only [fX0_isSo, nL, nI_add, nJ_mul, nJ_div, nJ_mod, nI_leI, nI_ltI, nI_eq, Option.bind_some, Option.bind_none, Nat.one_ne_zero, Nat.zero_ne_one, Nat.zero_add, Nat.add_zero, if_true, if_false, not_true_eq_false, not_false_eq_true, gx0 X, xx65 X, bl_bit, e, c, lc_b1, rz_1]
theorem bE_isHeld (G : GS q g) (R : glR I L g A) (hW : lW A) {who w : Nat} (hq : who < lA A 1 2 ∨ who = 6) (hw_ : w < 256) : fX1_isHeld g (nI who) (nI w) (hw q I L) = some (nI (if lH A who w then 1 else 0), hw q I L) := by
  have h6 := hW.1.2.2.1
  have e : btl (L (g + 11) (4 * who + w / 64)) (w % 64) = lH A who w := R.hd hq w hw_
  cases c : lH A who w
  · simp (disch := omega) only [fX1_isHeld, nL, nI_add, nJ_mul, nJ_div, nJ_mod, nI_leI, nI_ltI, nI_eq, Option.bind_some, Option.bind_none, Nat.one_ne_zero, Nat.zero_ne_one, Nat.zero_add, Nat.add_zero, if_true, if_false, not_true_eq_false, not_false_eq_true, gg19 G, xg19 G, bl_bit, e, c, lc_b1, Bool.false_eq_true, rz_0]
  · simp (disch := omega) only [fX1_isHeld, nL, nI_add, nJ_mul, nJ_div, nJ_mod, nI_leI, nI_ltI, nI_eq, Option.bind_some, Option.bind_none, Nat.one_ne_zero, Nat.zero_ne_one, Nat.zero_add, Nat.add_zero, if_true, if_false, not_true_eq_false, not_false_eq_true, gg19 G, xg19 G, bl_bit, e, c, lc_b1, rz_1]
theorem bE_heldMany (G : GS q g) (R : glR I L g A) (hW : lW A) {who : Nat} (hq : who < lA A 1 2 ∨ who = 6) : fX1_heldMany g (nI who) (hw q I L) = some (nI (fb_ct (lH A who) 256), hw q I L) := by
  have h6 := hW.1.2.2.1
  have e := R.hd hq
  unfold fX1_heldMany fX1_heldMany_L4
  refine whl_for (fun i => (nI (fb_ct (lH A who) (64 * i)), nI i, hw q I L)) 4 rfl (fun i hi => ?_) ?_
  · simp (disch := omega) only [fX1_heldMany_L4_b, nL, nI_add, nJ_mul, nJ_div, nJ_mod, nI_leI, nI_ltI, nI_eq, Option.bind_some, Option.bind_none, Nat.one_ne_zero, Nat.zero_ne_one, Nat.zero_add, Nat.add_zero, if_true, if_false, not_true_eq_false, not_false_eq_true, gg19 G, xg19 G, fJ8_e, nm_, ctl_rows e hi, show ¬ 4 ≤ i by omega, if_false]
  · simp (disch := omega) only [fX1_heldMany_L4_b, nL, nI_add, nJ_mul, nJ_div, nJ_mod, nI_leI, nI_ltI, nI_eq, Option.bind_some, Option.bind_none, Nat.one_ne_zero, Nat.zero_ne_one, Nat.zero_add, Nat.add_zero, if_true, if_false, not_true_eq_false, not_false_eq_true, if_true, Nat.le_refl]
    rfl
theorem bE_gainOf (X : XS q) (G : GS q g) (R : glR I L g A) (hT : tlR (L 65) sM T) (hW : lW A) {s : Nat} (hs : s < sM) (hM : sM ≤ 24) : fX0_gainOf 64 (some g) (nI s) (hw q I L) = some (nI (gn_ (lH A 6) (T s)), hw q I L) := by
  have e := rL_an (R.hd (who := 6) (Or.inr rfl)) (hT s hs)
  unfold fX0_gainOf fX0_gainOf_L5
  refine whl_for (fun i => (nI (fb_ct (fun w => lH A 6 w && !T s w) (64 * i)), nI i, hw q I L)) 4 rfl (fun i hi => ?_) ?_
  · have e2 := ctl_rows e hi
    simp only [Nat.zero_add] at e2
    simp (disch := omega) only [fX0_gainOf_L5_b, nL, nI_add, nJ_mul, nJ_div, nJ_mod, nI_leI, nI_ltI, nI_eq, Option.bind_some, Option.bind_none, Nat.one_ne_zero, Nat.zero_ne_one, Nat.zero_add, Nat.add_zero, if_true, if_false, not_true_eq_false, not_false_eq_true, gg19 G, xg19 G, gx0 X, xx65 X, fJ8_e, nm_, e2, show ¬ 4 ≤ i by omega, if_false]
  · simp (disch := omega) only [fX0_gainOf_L5_b, nL, nI_add, nJ_mul, nJ_div, nJ_mod, nI_leI, nI_ltI, nI_eq, Option.bind_some, Option.bind_none, Nat.one_ne_zero, Nat.zero_ne_one, Nat.zero_add, Nat.add_zero, if_true, if_false, not_true_eq_false, not_false_eq_true, if_true, Nat.le_refl]
    rfl
theorem bE_isKnown (X : XS q) (G : GS q g) (R : glR I L g A) (hT : tlR (L 65) sM T) (hW : lW A) {who s : Nat} (hq : who < lA A 1 2 ∨ who = 6) (hs : s < sM) (hM : sM ≤ 24) : fX0_isKnown 64 (some g) (nI who) (nI s) (hw q I L) = some (nI (if kn_ (lH A who) (T s) then 1 else 0), hw q I L) := by
  have h6 := hW.1.2.2.1
  have e := rL_an (R.hd hq) (hT s hs)
  have ea := ctl_any e
  unfold fX0_isKnown fX0_isKnown_L3
  have := whl_any (f := fun s_1 : Int32 × ph_t => fX0_isKnown_L3_b 64 (some g) (nI who) (nI s) s_1.1 s_1.2) (fun i => (nI i, hw q I L)) (fun k => decide (¬ (L (g + 11) (4 * who + k) &&& (L 65 (4 * s + k) ^^^ (-1))) = 0)) 4 (t0 := (nI 1, hw q I L)) (t1 := (nI 0, hw q I L)) rfl
    (fun i hi c => by
      have c : (L (g + 11) (4 * who + i) &&& (L 65 (4 * s + i) ^^^ (-1))) = 0 := by simpa using c
      simp (disch := omega) only [fX0_isKnown_L3_b, nL, nI_add, nJ_mul, nJ_div, nJ_mod, nI_leI, nI_ltI, nI_eq, Option.bind_some, Option.bind_none, Nat.one_ne_zero, Nat.zero_ne_one, Nat.zero_add, Nat.add_zero, if_true, if_false, not_true_eq_false, not_false_eq_true, gg19 G, xg19 G, gx0 X, xx65 X, lc_z, c, show ¬ 4 ≤ i by omega])
    (fun i hi c => by
      have c : ¬ (L (g + 11) (4 * who + i) &&& (L 65 (4 * s + i) ^^^ (-1))) = 0 := of_decide_eq_true c
      simp (disch := omega) only [fX0_isKnown_L3_b, nL, nI_add, nJ_mul, nJ_div, nJ_mod, nI_leI, nI_ltI, nI_eq, Option.bind_some, Option.bind_none, Nat.one_ne_zero, Nat.zero_ne_one, Nat.zero_add, Nat.add_zero, if_true, if_false, not_true_eq_false, not_false_eq_true, gg19 G, xg19 G, gx0 X, xx65 X, lc_z, c, show ¬ 4 ≤ i by omega, rz_0, xr_s])
    (by simp (disch := omega) only [fX0_isKnown_L3_b, nL, nI_add, nJ_mul, nJ_div, nJ_mod, nI_leI, nI_ltI, nI_eq, Option.bind_some, Option.bind_none, Nat.one_ne_zero, Nat.zero_ne_one, Nat.zero_add, Nat.add_zero, if_true, if_false, not_true_eq_false, not_false_eq_true, Nat.le_refl, rz_1, xr_s])
  rw [nJ_0, this, ea]
  unfold kn_
  by_cases d : fb_ct (fun w => lH A who w && !T s w) 256 = 0
  · rw [decide_eq_true d]; rfl
  · rw [decide_eq_false d]; rfl
theorem bE_worlds (G : GS q g) (R : glR I L g A) (hW : lW A) : fX1_worlds g (hw q I L) = some (nI (2 ^ lA A 1 0), hw q I L) := by
  have h0 := hW.1.1
  have e := nJ_shl (k := lA A 1 0) (by omega)
  simp (disch := omega) only [fX1_worlds, nL, nI_add, nJ_mul, nJ_div, nJ_mod, nI_leI, nI_ltI, nI_eq, Option.bind_some, Option.bind_none, Nat.one_ne_zero, Nat.zero_ne_one, Nat.zero_add, Nat.add_zero, if_true, if_false, not_true_eq_false, not_false_eq_true, gg_I G, R.f0, ← e]
theorem bE_knowsFact (G : GS q g) (R : glR I L g A) (hW : lW A) {who f : Nat} (hq : who < lA A 1 2 ∨ who = 6) (hf : f < lA A 1 0) : fX1_knowsFact g (nI who) (nI f) (hw q I L) = some (nI (if a_kf A who f then 1 else 0), hw q I L) := by
  have hn8 := hW.1.1
  have h8 := p2_8 hW.1.1
  have ew := bE_worlds (L := L) G R hW
  unfold a_kf
  obtain ⟨N, hN⟩ : ∃ N, 2 ^ lA A 1 0 = N := ⟨_, rfl⟩
  rw [hN] at h8 ew
  rw [hN]
  unfold fX1_knowsFact fX1_knowsFact_L2
  have := whl_any (f := fun s_1 : Int32 × ph_t => fX1_knowsFact_L2_b g (nI who) (nI f) s_1.1 s_1.2) (fun i => (nI i, hw q I L)) (fun w => !(!lH A who w || (w.testBit f == (lA A 1 1).testBit f))) N (t0 := (nI 1, hw q I L)) (t1 := (nI 0, hw q I L)) rfl
    (fun i hi c => by
      have eH := bE_isHeld (L := L) G R hW hq (w := i) (by omega)
      by_cases c3 : i.testBit f = (lA A 1 1).testBit f
      · simp (disch := omega) only [fX1_knowsFact_L2_b, fX1_knowsFact_L37, nL, nI_add, nJ_mul, nJ_div, nJ_mod, nI_leI, nI_ltI, nI_eq, Option.bind_some, Option.bind_none, Nat.one_ne_zero, Nat.zero_ne_one, Nat.zero_add, Nat.add_zero, if_true, if_false, not_true_eq_false, not_false_eq_true, dg G, ew, bE_hasN, gg_I G, R.f1, b2_eq, c3, show ¬ N ≤ i by omega]
      · have c4 : lH A who i = false := by
          cases d : lH A who i
          · rfl
          · simp [d, c3] at c
        simp (disch := omega) only [fX1_knowsFact_L2_b, fX1_knowsFact_L37, nL, nI_add, nJ_mul, nJ_div, nJ_mod, nI_leI, nI_ltI, nI_eq, Option.bind_some, Option.bind_none, Nat.one_ne_zero, Nat.zero_ne_one, Nat.zero_add, Nat.add_zero, if_true, if_false, not_true_eq_false, not_false_eq_true, dg G, ew, bE_hasN, gg_I G, R.f1, b2_eq, c3, eH, c4, Bool.false_eq_true, show ¬ N ≤ i by omega])
    (fun i hi c => by
      have eH := bE_isHeld (L := L) G R hW hq (w := i) (by omega)
      have c3 : ¬ i.testBit f = (lA A 1 1).testBit f := by
        intro z
        simp [z] at c
      have c4 : lH A who i = true := by
        cases d : lH A who i
        · simp [d] at c
        · rfl
      simp (disch := omega) only [fX1_knowsFact_L2_b, fX1_knowsFact_L37, nL, nI_add, nJ_mul, nJ_div, nJ_mod, nI_leI, nI_ltI, nI_eq, Option.bind_some, Option.bind_none, Nat.one_ne_zero, Nat.zero_ne_one, Nat.zero_add, Nat.add_zero, if_true, if_false, not_true_eq_false, not_false_eq_true, dg G, ew, bE_hasN, gg_I G, R.f1, b2_eq, c3, eH, c4, show ¬ N ≤ i by omega, rz_0, xr_s])
    (by simp (disch := omega) only [fX1_knowsFact_L2_b, nL, nI_add, nJ_mul, nJ_div, nJ_mod, nI_leI, nI_ltI, nI_eq, Option.bind_some, Option.bind_none, Nat.one_ne_zero, Nat.zero_ne_one, Nat.zero_add, Nat.add_zero, if_true, if_false, not_true_eq_false, not_false_eq_true, dg G, ew, Nat.le_refl, rz_1, xr_s])
  rw [nJ_0, this]
  rw [all_any]
  cases anyB (fun w => !(!lH A who w || (w.testBit f == (lA A 1 1).testBit f))) N <;> rfl
end BL
