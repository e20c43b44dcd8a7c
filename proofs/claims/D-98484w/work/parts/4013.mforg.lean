/-! P2 MFORG: the model forgets a fact, a day passes -/
/-- a row's own bits -/
def bI_ (row : Nat → Int32) (base w : Nat) : Bool := bt (row (base + w / 32)) (w % 32)
theorem bI_r {row : Nat → Int32} {base : Nat} : rI_ row base (bI_ row base) := fun _ _ => rfl
section MFO
variable {q : ph_t} {I : iF} {L : lF_} {A : ld_t} {T : Nat → Nat → Bool} {sM : Nat}
theorem mE_isHeldR (M : MS q) {who w : Nat} (hq : who < 7) (hw_ : w < 256) : fX3_isHeld 136 (nI who) (nI w) (hw q I L) = some (nI (if bI_ (I 151) (8 * who) w then 1 else 0), hw q I L) := by
  simp (disch := omega) only [fX3_isHeld, nL, nI_add, nJ_mul, nJ_div, nJ_mod, nI_leI, nI_ltI, nI_eq, Option.bind_some, Option.bind_none, Nat.one_ne_zero, Nat.zero_ne_one, Nat.zero_add, Nat.add_zero, if_true, if_false, not_true_eq_false, not_false_eq_true, gm15 M, xm151 M, mE_has, rz_n]
  rfl
theorem nJ_xor (a b : Nat) : nI a ^^^ nI b = nI (a ^^^ b) := by
  apply Int32.toBitVec_inj.1
  show BitVec.ofNat 32 a ^^^ BitVec.ofNat 32 b = BitVec.ofNat 32 (a ^^^ b)
  apply BitVec.eq_of_getLsbD_eq
  intro i hi
  simp [hi]
theorem xor_lt8 {w f n : Nat} (hw_ : w < 2 ^ n) (hf : f < n) : w ^^^ 2 ^ f < 2 ^ n := Nat.xor_lt_two_pow hw_ (Nat.pow_lt_pow_right (by decide) hf)
theorem or_0 {x : Int32} : x ||| nI 0 = x := by
  rw [← nJ_0]
  exact Int32.or_zero
theorem ph_us {a k : Nat} {v : Int32} (h : v = I a k) : ph_u I a k v a = I a := by
  funext j
  rw [pu_at, h]
  split
  · rename_i e; rw [e]
  · rfl
theorem rI_cong' {row row' : Nat → Int32} {base : Nat} {B : Nat → Bool} (e : row' = row) (h : rI_ row base B) : rI_ row' base B := by
  rw [e]
  exact h
def fgF (I I' : iF) (who : Nat) : Prop := (∀ a, a ≠ 151 → a ≠ 181 → I' a = I a) ∧ ∀ j, (j < 8 * who ∨ 8 * who + 8 ≤ j) → I' 151 j = I 151 j
theorem fgF.rf {who : Nat} : fgF I I who := ⟨fun _ _ _ => rfl, fun _ _ => rfl⟩
theorem mE_fg95 (M : MS q) {who f : Nat} (hq : who < 7) {B : Nat → Bool} (h0 : rI_ (I 181) 0 B) :
    ∃ I', fX3_forgets_L95 136 (nI f) (nI who) (nI 0) (hw q I L) = some (.inl (nI (who + 1), hw q I' L)) ∧ fgF I I' who ∧ rI_ (I' 151) (8 * who) B := by
  unfold fX3_forgets_L95
  obtain ⟨t, h1, I', rfl, h2, h3⟩ := whl_inv (f := fun s_1 : Int32 × ph_t => fX3_forgets_L95_b 136 (nI f) (nI who) s_1.1 s_1.2) (P := fun i z => ∃ I', z = (nI i, hw q I' L) ∧ ((∀ a, a ≠ 151 → I' a = I a) ∧ ∀ j, (j < 8 * who ∨ 8 * who + 8 ≤ j) → I' 151 j = I 151 j) ∧ ∀ k, k < i → k < 8 → I' 151 (8 * who + k) = I 181 k)
    (Q := fun t => ∃ I', t = .inl (nI (who + 1), hw q I' L) ∧ ((∀ a, a ≠ 151 → I' a = I a) ∧ ∀ j, (j < 8 * who ∨ 8 * who + 8 ≤ j) → I' 151 j = I 151 j) ∧ ∀ k, k < 8 → I' 151 (8 * who + k) = I 181 k) 8 (by
      rintro i z hi ⟨I', rfl, h2, h3⟩
      by_cases c : i < 8
      · left
        refine ⟨c, _, by simp (disch := omega) only [fX3_forgets_L95_b, nL, nI_add, nJ_mul, nJ_div, nJ_mod, nI_leI, nI_ltI, nI_eq, Option.bind_some, Option.bind_none, Nat.one_ne_zero, Nat.zero_ne_one, Nat.zero_add, Nat.add_zero, if_true, if_false, not_true_eq_false, not_false_eq_true, gm15 M, gm62 M, xm181 M, ym151 M, show ¬ 8 ≤ i by omega] <;> rfl, _, rfl, ⟨fun a ha => by rw [pu_ne ha]; exact h2.1 a ha, fun j hj => by rw [pu_nk (by omega)]; exact h2.2 j hj⟩, fun k hk hk8 => ?_⟩
        rw [h2.1 181 (by decide), pu_at]
        by_cases c2 : k = i
        · subst c2; rw [if_pos rfl]
        · rw [if_neg (by omega)]
          exact h3 k (by omega) hk8
      · right
        exact ⟨_, by simp (disch := omega) only [fX3_forgets_L95_b, nL, nI_add, nJ_mul, nJ_div, nJ_mod, nI_leI, nI_ltI, nI_eq, Option.bind_some, Option.bind_none, Nat.one_ne_zero, Nat.zero_ne_one, Nat.zero_add, Nat.add_zero, if_true, if_false, not_true_eq_false, not_false_eq_true, show 8 ≤ i by omega, xr_s] <;> rfl, I', rfl, h2, fun k hk => h3 k (by omega) hk⟩) 0 _ (by omega) ⟨I, rfl, ⟨fun _ _ => rfl, fun _ _ => rfl⟩, fun k hk => by omega⟩
  refine ⟨I', h1, ⟨fun a h _ => h2.1 a h, h2.2⟩, fun w hw_ => ?_⟩
  rw [h3 _ (by omega), ← h0 w hw_, Nat.zero_add]
theorem mE_fg31 (K : mK q I A T sM) {who f : Nat} (hq : who < 7) (hf : f < lA A 1 0) (h0 : rI_ (I 181) 0 (fun _ => false)) :
    ∃ I', fX3_forgets_L31 136 (nI f) (nI who) (nI 0) (hw q I L) = some (.inl (nI (who + 1), hw q I' L)) ∧ fgF I I' who ∧ rI_ (I' 151) (8 * who) (fun w => decide (w < 2 ^ lA A 1 0) && (bI_ (I 151) (8 * who) w || bI_ (I 151) (8 * who) (w ^^^ 2 ^ f))) := by
  have K0 := K
  obtain ⟨M, R, hT, hsM, hW, h24⟩ := K
  have hn8 := hW.1.1
  have h8 := p2_8 hW.1.1
  have hxo := fun w (h : w < 2 ^ lA A 1 0) => xor_lt8 h hf
  have ef := nJ_shl (k := f) (by omega)
  rw [nL 1] at ef
  obtain ⟨N, hN⟩ : ∃ N, 2 ^ lA A 1 0 = N := ⟨_, rfl⟩
  rw [hN] at h8 hxo
  rw [hN]
  unfold fX3_forgets_L31
  obtain ⟨t, h1, I', rfl, h2, h3⟩ := whl_inv (f := fun s_1 : Int32 × ph_t => fX3_forgets_L31_b 136 (nI f) (nI who) s_1.1 s_1.2) (P := fun i z => ∃ I', z = (nI i, hw q I' L) ∧ (∀ a, a ≠ 181 → I' a = I a) ∧ rI_ (I' 181) 0 (fun w => decide (w < i) && (bI_ (I 151) (8 * who) w || bI_ (I 151) (8 * who) (w ^^^ 2 ^ f))))
    (Q := fun t => ∃ I', t = .inl (nI (who + 1), hw q I' L) ∧ fgF I I' who ∧ rI_ (I' 151) (8 * who) (fun w => decide (w < N) && (bI_ (I 151) (8 * who) w || bI_ (I 151) (8 * who) (w ^^^ 2 ^ f)))) N (by
      rintro i z hi ⟨I', rfl, h2, h3⟩
      have K' : mK q I' A T sM := K0.next (fun a ha => h2 a (by omega)) (mlR_fr (fun a ha => h2 a (by omega)) R) hW
      have ew := kE_worlds (L := L) K'
      rw [hN] at ew
      by_cases c : i < N
      · left
        refine ⟨c, ?_⟩
        have hx := hxo i c
        have eH := mE_isHeldR (I := I') (L := L) M hq (w := i) (by omega)
        have eH2 := mE_isHeldR (I := I') (L := L) M hq (w := i ^^^ 2 ^ f) (by omega)
        rw [h2 151 (by decide)] at eH eH2
        have hput := rI_put h3 (w := i) (by omega)
        rw [nL 1, Nat.zero_add] at hput
        cases c1 : bI_ (I 151) (8 * who) i
        · cases c2 : bI_ (I 151) (8 * who) (i ^^^ 2 ^ f)
          · refine ⟨_, by simp (disch := omega) only [fX3_forgets_L31_b, fX3_forgets_L85, fX3_forgets_L75, nm_, nL, nI_add, nJ_mul, nJ_div, nJ_mod, nI_leI, nI_ltI, nI_eq, Option.bind_some, Option.bind_none, Nat.one_ne_zero, Nat.zero_ne_one, Nat.zero_add, Nat.add_zero, if_true, if_false, not_true_eq_false, not_false_eq_true, dm M, ew, ef, nJ_xor, gm62 M, xm181 M, ym181 M, eH, eH2, c1, c2, Bool.false_eq_true, show ¬ N ≤ i by omega] <;> rfl, _, rfl, fun a ha => by rw [pu_ne ha]; exact h2 a ha, ?_⟩
            refine rI_cong (rI_cong' (ph_us or_0) h3) fun w _ => ?_
            by_cases c3 : w = i
            · subst c3; simp [c1, c2]
            · rw [decide_eq_decide.mpr (show w < i ↔ w < i + 1 by omega)]
          · refine ⟨_, by simp (disch := omega) only [fX3_forgets_L31_b, fX3_forgets_L85, fX3_forgets_L75, nm_, nL, nI_add, nJ_mul, nJ_div, nJ_mod, nI_leI, nI_ltI, nI_eq, Option.bind_some, Option.bind_none, Nat.one_ne_zero, Nat.zero_ne_one, Nat.zero_add, Nat.add_zero, if_true, if_false, not_true_eq_false, not_false_eq_true, dm M, ew, ef, nJ_xor, gm62 M, xm181 M, ym181 M, eH, eH2, c1, c2, Bool.false_eq_true, show ¬ N ≤ i by omega] <;> rfl, _, rfl, fun a ha => by rw [pu_ne ha]; exact h2 a ha, rI_cong hput fun w _ => ?_⟩
            by_cases c3 : w = i
            · subst c3; simp [c1, c2]
            · rw [if_neg c3, decide_eq_decide.mpr (show w < i ↔ w < i + 1 by omega)]
        · refine ⟨_, by simp (disch := omega) only [fX3_forgets_L31_b, fX3_forgets_L85, fX3_forgets_L75, nm_, nL, nI_add, nJ_mul, nJ_div, nJ_mod, nI_leI, nI_ltI, nI_eq, Option.bind_some, Option.bind_none, Nat.one_ne_zero, Nat.zero_ne_one, Nat.zero_add, Nat.add_zero, if_true, if_false, not_true_eq_false, not_false_eq_true, dm M, ew, ef, nJ_xor, gm62 M, xm181 M, ym181 M, eH, eH2, c1, Bool.false_eq_true, show ¬ N ≤ i by omega] <;> rfl, _, rfl, fun a ha => by rw [pu_ne ha]; exact h2 a ha, rI_cong hput fun w _ => ?_⟩
          by_cases c3 : w = i
          · subst c3; simp [c1]
          · rw [if_neg c3, decide_eq_decide.mpr (show w < i ↔ w < i + 1 by omega)]
      · right
        have : i = N := by omega
        subst this
        obtain ⟨I2, e1, e2, e3⟩ := mE_fg95 (L := L) (f := f) K'.1 hq h3
        exact ⟨_, by simp (disch := omega) only [fX3_forgets_L31_b, nL, nI_add, nJ_mul, nJ_div, nJ_mod, nI_leI, nI_ltI, nI_eq, Option.bind_some, Option.bind_none, Nat.one_ne_zero, Nat.zero_ne_one, Nat.zero_add, Nat.add_zero, if_true, if_false, not_true_eq_false, not_false_eq_true, dm M, ew, Nat.le_refl, e1, xr_s] <;> rfl, I2, rfl, ⟨fun a h7 h8 => (e2.1 a h7 h8).trans (h2 a h8), fun j hj => by rw [e2.2 j hj, h2 151 (by decide)]⟩, e3⟩) 0 _ (by omega) ⟨I, rfl, fun _ _ => rfl, rI_cong h0 fun w _ => by simp⟩
  exact ⟨I', h1, h2, h3⟩
theorem mE_fg10 (K : mK q I A T sM) {who f : Nat} (hq : who < 7) (hf : f < lA A 1 0) :
    ∃ I', fX3_forgets_L10 136 (nI f) (nI who) (nI 0) (hw q I L) = some (.inl (nI (who + 1), hw q I' L)) ∧ fgF I I' who ∧ rI_ (I' 151) (8 * who) (fun w => decide (w < 2 ^ lA A 1 0) && (bI_ (I 151) (8 * who) w || bI_ (I 151) (8 * who) (w ^^^ 2 ^ f))) := by
  have K0 := K
  obtain ⟨M, R, hT, hsM, hW, h24⟩ := K
  unfold fX3_forgets_L10
  obtain ⟨t, h1, I', rfl, h2, h3⟩ := whl_inv (f := fun s_1 : Int32 × ph_t => fX3_forgets_L10_b 136 (nI f) (nI who) s_1.1 s_1.2) (P := fun i z => ∃ I', z = (nI i, hw q I' L) ∧ (∀ a, a ≠ 181 → I' a = I a) ∧ ∀ k, k < i → k < 8 → I' 181 k = 0)
    (Q := fun t => ∃ I', t = .inl (nI (who + 1), hw q I' L) ∧ fgF I I' who ∧ rI_ (I' 151) (8 * who) (fun w => decide (w < 2 ^ lA A 1 0) && (bI_ (I 151) (8 * who) w || bI_ (I 151) (8 * who) (w ^^^ 2 ^ f)))) 8 (by
      rintro i z hi ⟨I', rfl, h2, h3⟩
      by_cases c : i < 8
      · left
        refine ⟨c, _, by simp (disch := omega) only [fX3_forgets_L10_b, nL, nI_add, nJ_mul, nJ_div, nJ_mod, nI_leI, nI_ltI, nI_eq, Option.bind_some, Option.bind_none, Nat.one_ne_zero, Nat.zero_ne_one, Nat.zero_add, Nat.add_zero, if_true, if_false, not_true_eq_false, not_false_eq_true, gm62 M, ym181 M, show ¬ 8 ≤ i by omega] <;> rfl, _, rfl, fun a ha => by rw [pu_ne ha]; exact h2 a ha, fun k hk hk8 => ?_⟩
        rw [pu_at]
        by_cases c2 : k = i
        · rw [if_pos c2, nJ_0]
        · rw [if_neg c2]
          exact h3 k (by omega) hk8
      · right
        have K' : mK q I' A T sM := K0.next (fun a ha => h2 a (by omega)) (mlR_fr (fun a ha => h2 a (by omega)) R) hW
        obtain ⟨I2, e1, e2, e3⟩ := mE_fg31 (L := L) K' hq hf (fun w hw_ => by rw [Nat.zero_add, h3 _ (by omega) (by omega), b_0])
        rw [h2 151 (by decide)] at e3
        exact ⟨_, by simp (disch := omega) only [fX3_forgets_L10_b, nL, nI_add, nJ_mul, nJ_div, nJ_mod, nI_leI, nI_ltI, nI_eq, Option.bind_some, Option.bind_none, Nat.one_ne_zero, Nat.zero_ne_one, Nat.zero_add, Nat.add_zero, if_true, if_false, not_true_eq_false, not_false_eq_true, show 8 ≤ i by omega, e1, xr_s] <;> rfl, I2, rfl, ⟨fun a h7 h8 => (e2.1 a h7 h8).trans (h2 a h8), fun j hj => by rw [e2.2 j hj, h2 151 (by decide)]⟩, e3⟩) 0 _ (by omega) ⟨I, rfl, fun _ _ => rfl, fun k hk => by omega⟩
  exact ⟨I', h1, h2, h3⟩
/-- a fact's being forgotten by all -/
def a_fg (A : ld_t) (f : Nat) : ld_t := (A.1, fun who w => decide (w < 2 ^ lA A 1 0) && (lH A who w || lH A who (w ^^^ 2 ^ f)), A.2.2)
end MFO
