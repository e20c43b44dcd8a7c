/-! P2 MHELD: the model's acts on worlds held -/
def lHs (A : ld_t) (who : Nat) (B : Nat → Bool) : ld_t := (A.1, fun q w => if q = who then B w else A.2.1 q w, A.2.2)
theorem lHs_A {A : ld_t} {who : Nat} {B : Nat → Bool} {f i : Nat} : lA (lHs A who B) f i = lA A f i := rfl
/-- only the row of one who holds is written -/
def hdF (I I' : iF) (who : Nat) : Prop := (∀ a, a ≠ 151 → I' a = I a) ∧ ∀ j, (j < 8 * who ∨ 8 * who + 8 ≤ j) → I' 151 j = I 151 j
theorem hdF.rf {I : iF} {who : Nat} : hdF I I who := ⟨fun _ _ => rfl, fun _ _ => rfl⟩
theorem hdF.up {I I' : iF} {who k : Nat} {v : Int32} (h : hdF I I' who) (hk : 8 * who ≤ k ∧ k < 8 * who + 8) : hdF I (ph_u I' 151 k v) who := by
  refine ⟨fun a ha => ?_, fun j hj => ?_⟩
  · rw [pu_ne ha]
    exact h.1 a ha
  · rw [pu_nk (by omega)]
    exact h.2 j hj
theorem mlR_held {I I' : iF} {A : ld_t} {who : Nat} {B : Nat → Bool} (R : mlR (mlL I) A) (h : hdF I I' who) (hB : rI_ (I' 151) (8 * who) B) : mlR (mlL I') (lHs A who B) := by
  have e : ∀ f i, f ≠ 15 → mlL I' f i = mlL I f i := by
    intro f i hf
    unfold mlL
    split
    · rw [h.1 136 (by decide)]
    · split
      · rw [h.1 179 (by decide)]
      · rw [h.1 (136 + f) (by omega)]
  obtain ⟨r1, r2, r3⟩ := R
  refine ⟨fun f i hi => ?_, fun w hw_ => ?_, fun k hk => ?_⟩
  · rw [e f i (fun z => by subst z; exact absurd hi (by simp [rnF]))]
    exact r1 f i hi
  · by_cases q : w = who
    · subst q
      intro x hx
      show bt (I' 151 (8 * w + x / 32)) (x % 32) = if w = w then B x else _
      rw [if_pos rfl]
      exact hB x hx
    · intro x hx
      show bt (I' 151 (8 * w + x / 32)) (x % 32) = if w = who then B x else lH A w x
      rw [if_neg q, h.2 _ (by omega)]
      exact r2 w hw_ x hx
  · have := r3 k hk
    simp only [show mlL I' 57 = mlL I 57 from funext fun i => e 57 i (by decide)]
    exact this
section MH
variable {q : ph_t} {I : iF} {L : lF_} {A : ld_t} {T : Nat → Nat → Bool} {sM : Nat}
theorem mE_isTold (M : MS q) (R : mlR (mlL I) A) (hT : tbR (I 171) sM T) (hW : lW A) {who s : Nat} (hq : who < lA A 1 2 ∨ who = 6) (hs : s < sM) (hM : sM ≤ 24) :
    ∃ I', fX3_isTold 136 (nI who) (nI s) (hw q I L) = some ((), hw q I' L) ∧ hdF I I' who ∧ mlR (mlL I') (lHs A who (fun w => lH A who w && T s w)) := by
  have h6 := hW.1.2.2.1
  have e : rI_ (I 151) (8 * who) (lH A who) := R.2.1 who hq
  have eT := hT s hs
  unfold fX3_isTold fX3_isTold_L2
  obtain ⟨t, h1, I', rfl, h2, h3⟩ := whl_inv (f := fun s_1 : Int32 × ph_t => fX3_isTold_L2_b 136 (nI who) (nI s) s_1.1 s_1.2) (P := fun i z => ∃ I', z = (nI i, hw q I' L) ∧ hdF I I' who ∧ ∀ k, k < 8 → I' 151 (8 * who + k) = if k < i then I 151 (8 * who + k) &&& I 171 (8 * s + k) else I 151 (8 * who + k))
    (Q := fun t => ∃ I', t = ((), hw q I' L) ∧ hdF I I' who ∧ ∀ k, k < 8 → I' 151 (8 * who + k) = I 151 (8 * who + k) &&& I 171 (8 * s + k)) 8 (by
      rintro i z hi ⟨I', rfl, h2, h3⟩
      by_cases c : i < 8
      · left
        refine ⟨c, ?_⟩
        have e1 := h3 i c
        rw [if_neg (by omega)] at e1
        refine ⟨_, by simp (disch := omega) only [fX3_isTold_L2_b, nL, nI_add, nJ_mul, nJ_div, nJ_mod, nI_leI, nI_ltI, nI_eq, Option.bind_some, Option.bind_none, Nat.one_ne_zero, Nat.zero_ne_one, Nat.zero_add, Nat.add_zero, if_true, if_false, not_true_eq_false, not_false_eq_true, gm15 M, gm46 M, xm151 M, ym151 M, xm171 M, show ¬ 8 ≤ i by omega]; rfl, _, rfl, h2.up (by omega), fun k hk => ?_⟩
        rw [h2.1 171 (by decide), e1, pu_at]
        by_cases c2 : k = i
        · subst c2
          rw [if_pos rfl, if_pos (by omega)]
        · rw [if_neg (by omega), h3 k hk]
          by_cases c3 : k < i
          · rw [if_pos c3, if_pos (by omega)]
          · rw [if_neg c3, if_neg (by omega)]
      · right
        refine ⟨_, by simp (disch := omega) only [fX3_isTold_L2_b, nL, nI_add, nJ_mul, nJ_div, nJ_mod, nI_leI, nI_ltI, nI_eq, Option.bind_some, Option.bind_none, Nat.one_ne_zero, Nat.zero_ne_one, Nat.zero_add, Nat.add_zero, if_true, if_false, not_true_eq_false, not_false_eq_true, show 8 ≤ i by omega]; rfl, I', rfl, h2, fun k hk => ?_⟩
        rw [h3 k hk, if_pos (by omega)]) 0 _ (by omega) ⟨I, rfl, hdF.rf, fun k _ => by rw [if_neg (by omega)]⟩
  refine ⟨I', h1, h2, mlR_held R h2 fun w hw_ => ?_⟩
  rw [h3 _ (by omega), b_and, e w hw_, eT w hw_]
end MH
