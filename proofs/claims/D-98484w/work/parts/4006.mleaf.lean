/-! P2 MLEAF: the model's leaves -/
theorem bn_iu {x : Int32} {k : Nat} (h : k < 32) : (iu_ x (nI k)) &&& nI 1 = nI (if bt x k then 1 else 0) := bt_iu h
theorem bn_is {x : Int32} {k : Nat} (h : k < 32) : (is_ x (nI k)) &&& nI 1 = nI (if bt x k then 1 else 0) := bt_is h
theorem mE_has {x : Int32} {k : Nat} (h : k < 32) {g : ph_t} : fX3_has x (nI k) g = some (nI (if bt x k then 1 else 0), g) := by
  unfold fX3_has
  rw [bt_is h]
  cases bt x k
  · exact if_pos (by decide)
  · exact if_neg (by decide)
theorem mE_bits {x : Int32} {g : ph_t} : fX3_bits x g = some (nI (fb_ct (bt x) 32), g) := by
  unfold fX3_bits fX3_bits_L4
  refine whl_for (fun i => (nI (fb_ct (bt x) i), nI i, g)) 32 rfl (fun i hi => ?_) ?_
  · have := fb_ct_le (bt x) i
    simp (disch := omega) only [fX3_bits_L4_b, nL, nI_add, nJ_mul, nJ_div, nJ_mod, nI_leI, nI_ltI, nI_eq, Option.bind_some, Option.bind_none, Nat.one_ne_zero, Nat.zero_ne_one, Nat.zero_add, Nat.add_zero, if_true, if_false, not_true_eq_false, not_false_eq_true, bn_iu hi, nm_, fb_ct_succ, show ¬ 32 ≤ i by omega, if_false]
  · simp (disch := omega) only [fX3_bits_L4_b, nL, nI_add, nJ_mul, nJ_div, nJ_mod, nI_leI, nI_ltI, nI_eq, Option.bind_some, Option.bind_none, Nat.one_ne_zero, Nat.zero_ne_one, Nat.zero_add, Nat.add_zero, if_true, if_false, not_true_eq_false, not_false_eq_true, if_true, Nat.le_refl]
    rfl
section ML
variable {q : ph_t} {I : iF} {L : lF_} {A : ld_t} {T : Nat → Nat → Bool} {sM : Nat}
theorem mE_isSo (M : MS q) (hT : tbR (I 171) sM T) {s w : Nat} (hs : s < sM) (hw_ : w < 256) (hM : sM ≤ 24) : fX3_isSo 136 (nI s) (nI w) (hw q I L) = some (nI (if T s w then 1 else 0), hw q I L) := by
  simp (disch := omega) only [fX3_isSo, nL, nI_add, nJ_mul, nJ_div, nJ_mod, nI_leI, nI_ltI, nI_eq, Option.bind_some, Option.bind_none, Nat.one_ne_zero, Nat.zero_ne_one, Nat.zero_add, Nat.add_zero, if_true, if_false, not_true_eq_false, not_false_eq_true, gm46 M, xm171 M, mE_has, rz_n, hT s hs w hw_]
theorem mE_isHeld (M : MS q) (R : mlR (mlL I) A) {who w : Nat} (hq : who < lA A 1 2 ∨ who = 6) (hw_ : w < 256) (hW : lW A) : fX3_isHeld 136 (nI who) (nI w) (hw q I L) = some (nI (if lH A who w then 1 else 0), hw q I L) := by
  have h6 := hW.1.2.2.1
  have e : bt (I 151 (8 * who + w / 32)) (w % 32) = lH A who w := R.2.1 who hq w hw_
  simp (disch := omega) only [fX3_isHeld, nL, nI_add, nJ_mul, nJ_div, nJ_mod, nI_leI, nI_ltI, nI_eq, Option.bind_some, Option.bind_none, Nat.one_ne_zero, Nat.zero_ne_one, Nat.zero_add, Nat.add_zero, if_true, if_false, not_true_eq_false, not_false_eq_true, gm15 M, xm151 M, mE_has, rz_n, e]
/-- how many worlds, by rows of 32 -/
theorem ct_row {row : Nat → Int32} {base : Nat} {B : Nat → Bool} (h : rI_ row base B) : ∀ k, k ≤ 8 → fb_ct B (32 * k + 0) = fb_ct B (32 * k) := fun _ _ => rfl
theorem ct_rows {row : Nat → Int32} {base : Nat} {B : Nat → Bool} (h : rI_ row base B) {k : Nat} (hk : k < 8) : fb_ct B (32 * (k + 1)) = fb_ct B (32 * k) + fb_ct (bt (row (base + k))) 32 := by
  rw [show 32 * (k + 1) = 32 * k + 32 by omega, fb_ct_split]
  congr 1
  refine fb_ct_cong fun i hi => ?_
  have := h (32 * k + i) (by omega)
  rw [show (32 * k + i) / 32 = k by omega, show (32 * k + i) % 32 = i by omega] at this
  exact this.symm
theorem mE_manyHeld (M : MS q) (R : mlR (mlL I) A) {who : Nat} (hq : who < lA A 1 2 ∨ who = 6) (hW : lW A) : fX3_manyHeld 136 (nI who) (hw q I L) = some (nI (fb_ct (lH A who) 256), hw q I L) := by
  have h6 := hW.1.2.2.1
  have e : rI_ (I 151) (8 * who) (lH A who) := R.2.1 who hq
  unfold fX3_manyHeld fX3_manyHeld_L4
  refine whl_for (fun i => (nI (fb_ct (lH A who) (32 * i)), nI i, hw q I L)) 8 rfl (fun i hi => ?_) ?_
  · simp (disch := omega) only [fX3_manyHeld_L4_b, nL, nI_add, nJ_mul, nJ_div, nJ_mod, nI_leI, nI_ltI, nI_eq, Option.bind_some, Option.bind_none, Nat.one_ne_zero, Nat.zero_ne_one, Nat.zero_add, Nat.add_zero, if_true, if_false, not_true_eq_false, not_false_eq_true, gm15 M, xm151 M, mE_bits, nm_, ct_rows e hi, show ¬ 8 ≤ i by omega, if_false]
  · simp (disch := omega) only [fX3_manyHeld_L4_b, nL, nI_add, nJ_mul, nJ_div, nJ_mod, nI_leI, nI_ltI, nI_eq, Option.bind_some, Option.bind_none, Nat.one_ne_zero, Nat.zero_ne_one, Nat.zero_add, Nat.add_zero, if_true, if_false, not_true_eq_false, not_false_eq_true, if_true, Nat.le_refl]
    rfl
/-- known: no world held in which the saying isn't so -/
def kn_ (H B : Nat → Bool) : Bool := decide (fb_ct (fun w => H w && !B w) 256 = 0)
def gn_ (H B : Nat → Bool) : Nat := fb_ct (fun w => H w && !B w) 256
theorem bt_m1 : (-(nI 1) : Int32) = -1 := by decide +kernel
theorem rI_an {row row' : Nat → Int32} {b b' : Nat} {H B : Nat → Bool} (h : rI_ row b H) (h' : rI_ row' b' B) : rI_ (fun k => row (b + k) &&& (row' (b' + k) ^^^ (-1))) 0 (fun w => H w && !B w) := by
  intro w hw_
  show bt (row (b + (0 + w / 32)) &&& (row' (b' + (0 + w / 32)) ^^^ (-1))) (w % 32) = _
  rw [Nat.zero_add, b_and, bt_not (by omega), h w hw_, h' w hw_]
theorem ct_z32 {x : Int32} : x = 0 ↔ fb_ct (bt x) 32 = 0 := by
  rw [fb_ct_zero]
  exact ⟨fun h k _ => by rw [h, b_0], fun h => b_ext fun i hi => by rw [h i hi, b_0]⟩
theorem mE_gainOf (M : MS q) (R : mlR (mlL I) A) (hT : tbR (I 171) sM T) (hW : lW A) {s : Nat} (hs : s < sM) (hM : sM ≤ 24) : fX3_gainOf 136 (nI s) (hw q I L) = some (nI (gn_ (lH A 6) (T s)), hw q I L) := by
  have e := rI_an (show rI_ (I 151) (8 * 6) (lH A 6) from R.2.1 6 (Or.inr rfl)) (hT s hs)
  unfold fX3_gainOf fX3_gainOf_L4
  refine whl_for (fun i => (nI (fb_ct (fun w => lH A 6 w && !T s w) (32 * i)), nI i, hw q I L)) 8 rfl (fun i hi => ?_) ?_
  · have e2 := ct_rows e hi
    simp only [Nat.zero_add] at e2
    simp (disch := omega) only [fX3_gainOf_L4_b, nL, nI_add, nJ_mul, nJ_div, nJ_mod, nI_leI, nI_ltI, nI_eq, Option.bind_some, Option.bind_none, Nat.one_ne_zero, Nat.zero_ne_one, Nat.zero_add, Nat.add_zero, if_true, if_false, not_true_eq_false, not_false_eq_true, gm15 M, gm46 M, xm151 M, xm171 M, mE_bits, nm_, bt_m1, e2, show ¬ 8 ≤ i by omega, if_false]
  · simp (disch := omega) only [fX3_gainOf_L4_b, nL, nI_add, nJ_mul, nJ_div, nJ_mod, nI_leI, nI_ltI, nI_eq, Option.bind_some, Option.bind_none, Nat.one_ne_zero, Nat.zero_ne_one, Nat.zero_add, Nat.add_zero, if_true, if_false, not_true_eq_false, not_false_eq_true, if_true, Nat.le_refl]
    rfl
theorem mE_isKnown (M : MS q) (R : mlR (mlL I) A) (hT : tbR (I 171) sM T) (hW : lW A) {who s : Nat} (hq : who < lA A 1 2 ∨ who = 6) (hs : s < sM) (hM : sM ≤ 24) : fX3_isKnown 136 (nI who) (nI s) (hw q I L) = some (nI (if kn_ (lH A who) (T s) then 1 else 0), hw q I L) := by
  have h6 := hW.1.2.2.1
  have e := rI_an (show rI_ (I 151) (8 * who) (lH A who) from R.2.1 who hq) (hT s hs)
  unfold fX3_isKnown fX3_isKnown_L5
  refine whl_for (fun i => (nI (if fb_ct (fun w => lH A who w && !T s w) (32 * i) = 0 then 1 else 0), nI i, hw q I L)) 8 rfl (fun i hi => ?_) ?_
  · have e2 := ct_rows e hi
    simp only [Nat.zero_add] at e2
    generalize hx : (I 151 (8 * who + i) &&& (I 171 (8 * s + i) ^^^ (-1))) = x at e2
    have e3 := ct_z32 (x := x)
    rw [nJ_0] at e3
    by_cases c1 : fb_ct (fun w => lH A who w && !T s w) (32 * i) = 0
    · by_cases c2 : x = nI 0
      · have z := e3.mp c2
        rw [c2] at z
        simp (disch := omega) only [fX3_isKnown_L5_b, fX3_isKnown_L50, fX3_isKnown_L51, c1, e2, z, if_true, nL, nI_add, nJ_mul, nJ_div, nJ_mod, nI_leI, nI_ltI, nI_eq, Option.bind_some, Option.bind_none, Nat.one_ne_zero, Nat.zero_ne_one, Nat.zero_add, Nat.add_zero, if_true, if_false, not_true_eq_false, not_false_eq_true, gm15 M, gm46 M, xm151 M, xm171 M, bt_m1, hx, c2, show ¬ 8 ≤ i by omega, if_false, not_true_eq_false]
      · have c3 : ¬ fb_ct (bt x) 32 = 0 := fun z => c2 (e3.mpr z)
        simp (disch := omega) only [fX3_isKnown_L5_b, fX3_isKnown_L50, fX3_isKnown_L51, c1, e2, Nat.zero_add, c3, if_true, nL, nI_add, nJ_mul, nJ_div, nJ_mod, nI_leI, nI_ltI, nI_eq, Option.bind_some, Option.bind_none, Nat.one_ne_zero, Nat.zero_ne_one, Nat.zero_add, Nat.add_zero, if_true, if_false, not_true_eq_false, not_false_eq_true, gm15 M, gm46 M, xm151 M, xm171 M, bt_m1, hx, c2, show ¬ 8 ≤ i by omega, if_false, not_false_eq_true]
    · have c4 : ¬ (fb_ct (fun w => lH A who w && !T s w) (32 * i) + fb_ct (bt x) 32 = 0) := by omega
      simp (disch := omega) only [fX3_isKnown_L5_b, fX3_isKnown_L50, fX3_isKnown_L51, e2, c1, c4, if_true, nL, nI_add, nJ_mul, nJ_div, nJ_mod, nI_leI, nI_ltI, nI_eq, Option.bind_some, Option.bind_none, Nat.one_ne_zero, Nat.zero_ne_one, Nat.zero_add, Nat.add_zero, if_true, if_false, not_true_eq_false, not_false_eq_true, show ¬ 8 ≤ i by omega, if_false]
  · simp (disch := omega) only [fX3_isKnown_L5_b, nL, nI_add, nJ_mul, nJ_div, nJ_mod, nI_leI, nI_ltI, nI_eq, Option.bind_some, Option.bind_none, Nat.one_ne_zero, Nat.zero_ne_one, Nat.zero_add, Nat.add_zero, if_true, if_false, not_true_eq_false, not_false_eq_true, if_true, Nat.le_refl]
    unfold kn_
    by_cases c1 : fb_ct (fun w => lH A who w && !T s w) 256 = 0
    · simp [c1, rz_1, xr_s]
    · simp [c1, rz_0, xr_s]
end ML
