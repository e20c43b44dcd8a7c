/-! P2 BHELD: TruthBridge's acts on worlds held -/
theorem fo_cong {α : Type} {f f' : Nat → α → α} {a : α} (h : ∀ i x, f i x = f' i x) : ∀ n, fo_ f a n = fo_ f' a n
  | 0 => rfl
  | n + 1 => by
    show f n _ = f' n _
    rw [fo_cong h n, h]
theorem a_far_eq {A A' : ld_t} (h4 : lA A' 1 4 = lA A 1 4) (h8 : ∀ f k, 8 ≤ f → f ≤ 10 → lA A' f k = lA A f k) : a_far A' = a_far A := by
  unfold a_far fwQ
  rw [h4, fo_cong (f := fwP A') (f' := fwP A) (fun i x => by
    unfold fwP
    rw [h8 8 i (by decide) (by decide), h8 9 i (by decide) (by decide), h8 10 i (by decide) (by decide)])]
/-- what changes in a Gorge -/
def frG (g : Nat) (I I' : iF) : Prop := ∀ a, (a < g ∨ g + 13 < a) → I' a = I a
def frH (g : Nat) (L L' : lF_) : Prop := ∀ a, (a < g ∨ g + 13 < a) → L' a = L a
theorem frG.rf {g : Nat} {I : iF} : frG g I I := fun _ _ => rfl
theorem frH.rf {g : Nat} {L : lF_} : frH g L L := fun _ _ => rfl
theorem frG.tr {g : Nat} {I I' I'' : iF} (h : frG g I I') (h' : frG g I' I'') : frG g I I'' := fun a ha => (h' a ha).trans (h a ha)
theorem frH.tr {g : Nat} {L L' L'' : lF_} (h : frH g L L') (h' : frH g L' L'') : frH g L L'' := fun a ha => (h' a ha).trans (h a ha)
theorem frG.up {g : Nat} {I I' : iF} {a k : Nat} {v : Int32} (h : frG g I I') (ha : g ≤ a ∧ a ≤ g + 13) : frG g I (ph_u I' a k v) := fun b hb => by
  rw [pu_ne (by omega)]
  exact h b hb
theorem frH.up {g : Nat} {L L' : lF_} {a k : Nat} {v : Int64} (h : frH g L L') (ha : g ≤ a ∧ a ≤ g + 13) : frH g L (ph_u L' a k v) := fun b hb => by
  rw [pu_ne (by omega)]
  exact h b hb
/-- only one row of worlds held is written -/
def hdG (g : Nat) (L L' : lF_) (who : Nat) : Prop := (∀ a, a ≠ g + 11 → L' a = L a) ∧ ∀ j, (j < 4 * who ∨ 4 * who + 4 ≤ j) → L' (g + 11) j = L (g + 11) j
theorem hdG.rf {g : Nat} {L : lF_} {who : Nat} : hdG g L L who := ⟨fun _ _ => rfl, fun _ _ => rfl⟩
theorem hdG.up {g : Nat} {L L' : lF_} {who k : Nat} {v : Int64} (h : hdG g L L' who) (hk : 4 * who ≤ k ∧ k < 4 * who + 4) : hdG g L (ph_u L' (g + 11) k v) who := by
  refine ⟨fun a ha => ?_, fun j hj => ?_⟩
  · rw [pu_ne ha]
    exact h.1 a ha
  · rw [pu_nk (by omega)]
    exact h.2 j hj
theorem hdG.fr {g : Nat} {L L' : lF_} {who : Nat} (h : hdG g L L' who) : frH g L L' := fun a ha => h.1 a (by omega)
theorem bK.next {q : ph_t} {g : Nat} {I I' : iF} {L L' : lF_} {A A' : ld_t} {T : Nat → Nat → Bool} {sM : Nat} (K : bK q g I L A T sM) (h : frG g I I') (h' : frH g L L') (R : glR I' L' g A') (W : lW A') : bK q g I' L' A' T sM := by
  obtain ⟨X, G, -, hT, hs, -, h24, hg⟩ := K
  refine ⟨X, G, R, ?_, ?_, W, h24, hg⟩
  · rw [h' 65 (by omega)]; exact hT
  · rw [h 64 (by omega)]; exact hs
theorem glR_hold {I : iF} {L L' : lF_} {g : Nat} {A : ld_t} {who : Nat} {B : Nat → Bool} (R : glR I L g A) (h : hdG g L L' who) (hB : rL_ (L' (g + 11)) (4 * who) B) : glR I L' g (lHs A who B) := by
  obtain ⟨r1, r2, r3, r4, r5, r6, r7, r8⟩ := R
  refine ⟨r1, r2, r3, r4, r5, r6, fun w hw_ => ?_, fun k hk => ?_⟩
  · by_cases q : w = who
    · subst q
      intro x hx
      show btl (L' (g + 11) (4 * w + x / 64)) (x % 64) = if w = w then B x else _
      rw [if_pos rfl]
      exact hB x hx
    · intro x hx
      show btl (L' (g + 11) (4 * w + x / 64)) (x % 64) = if w = who then B x else lH A w x
      rw [if_neg q, h.2 _ (by omega)]
      exact r7 w hw_ x hx
  · rw [h.1 (g + 12) (by omega)]
    exact r8 k hk
theorem rL_clr {L : lF_} {a base w : Nat} {B : Nat → Bool} (h : rL_ (L a) base B) (hw_ : w < 256) : rL_ (ph_u L a (base + w / 64) (L a (base + w / 64) &&& (ll_ 1 (nI (w % 64)) ^^^ (-1))) a) base (fun v => if v = w then false else B v) := by
  intro v hv
  dsimp only
  rw [pu_at]
  by_cases c : v / 64 = w / 64
  · rw [if_pos (by omega), bl_and, bl_not (by omega), bl_sh (by omega) (by omega), ← c, h v hv]
    by_cases c2 : v = w
    · subst c2; simp
    · rw [if_neg c2, decide_eq_false (by omega)]
      simp
  · rw [if_neg (by omega), h v hv, if_neg (by intro z; subst z; exact c rfl)]
theorem rL_put {L : lF_} {a base w : Nat} {B : Nat → Bool} (h : rL_ (L a) base B) (hw_ : w < 256) : rL_ (ph_u L a (base + w / 64) (L a (base + w / 64) ||| ll_ 1 (nI (w % 64))) a) base (fun v => if v = w then true else B v) := by
  intro v hv
  dsimp only
  rw [pu_at]
  by_cases c : v / 64 = w / 64
  · rw [if_pos (by omega), bl_or, bl_sh (by omega) (by omega), ← c, h v hv]
    by_cases c2 : v = w
    · subst c2; simp
    · rw [if_neg c2, decide_eq_false (by omega)]
      simp
  · rw [if_neg (by omega), h v hv, if_neg (by intro z; subst z; exact c rfl)]
section BH
variable {q : ph_t} {I : iF} {L : lF_} {A : ld_t} {T : Nat → Nat → Bool} {sM g : Nat}
theorem bK_isTold (K : bK q g I L A T sM) {who s : Nat} (hq : who < lA A 1 2 ∨ who = 6) (hs : s < sM) : ∃ L', fX0_isTold 64 (some g) (nI who) (nI s) (hw q I L) = some ((), hw q I L') ∧ hdG g L L' who ∧ bK q g I L' (lHs A who (fun w => lH A who w && T s w)) T sM := by
  have K0 := K
  obtain ⟨X, G, R, hT, hsM, hW, h24, hg⟩ := K
  have h6 := hW.1.2.2.1
  have e := R.hd hq
  have eT := hT s hs
  unfold fX0_isTold fX0_isTold_L3
  have : ∃ t, whl (fun s_1 : Int32 × ph_t => fX0_isTold_L3_b 64 (some g) (nI who) (nI s) s_1.1 s_1.2) (0, hw q I L) = some t ∧ ∃ L', t = ((), hw q I L') ∧ hdG g L L' who ∧ ∀ k, k < 4 → L' (g + 11) (4 * who + k) = L (g + 11) (4 * who + k) &&& L 65 (4 * s + k) := by
    refine whl_st (α := lF_) (fun i J => (nI i, hw q I J)) (fun i J => hdG g L J who ∧ ∀ k, k < 4 → J (g + 11) (4 * who + k) = if k < i then L (g + 11) (4 * who + k) &&& L 65 (4 * s + k) else L (g + 11) (4 * who + k)) 4 (a := L) rfl ⟨hdG.rf, fun k _ => by rw [if_neg (by omega)]⟩ ?_ ?_
    · rintro i J hi ⟨f1, f2⟩
      have e1 := f2 i hi
      rw [if_neg (by omega)] at e1
      have e65 : J 65 = L 65 := f1.1 65 (by omega)
      refine ⟨_, by simp (disch := omega) only [fX0_isTold_L3_b, nL, nI_add, nJ_mul, nJ_div, nJ_mod, nI_leI, nI_ltI, nI_eq, Option.bind_some, Option.bind_none, Nat.one_ne_zero, Nat.zero_ne_one, Nat.zero_add, Nat.add_zero, if_true, if_false, not_true_eq_false, not_false_eq_true, gg19 G, xg19 G, yg19 G, gx0 X, xx65 X, show ¬ 4 ≤ i by omega] <;> rfl, f1.up (by omega), fun k hk => ?_⟩
      rw [e1, e65, pu_at]
      by_cases c2 : k = i
      · subst c2
        rw [if_pos rfl, if_pos (by omega)]
      · rw [if_neg (by omega), f2 k hk]
        by_cases c3 : k < i
        · rw [if_pos c3, if_pos (by omega)]
        · rw [if_neg c3, if_neg (by omega)]
    · rintro J ⟨f1, f2⟩
      exact ⟨_, by simp (disch := omega) only [fX0_isTold_L3_b, nL, nI_add, nJ_mul, nJ_div, nJ_mod, nI_leI, nI_ltI, nI_eq, Option.bind_some, Option.bind_none, Nat.one_ne_zero, Nat.zero_ne_one, Nat.zero_add, Nat.add_zero, if_true, if_false, not_true_eq_false, not_false_eq_true, Nat.le_refl, xr_s] <;> rfl, J, rfl, f1, fun k hk => by rw [f2 k hk, if_pos hk]⟩
  obtain ⟨t, h1, L', rfl, h2, h3⟩ := this
  refine ⟨L', h1, h2, K0.next frG.rf h2.fr (glR_hold R h2 fun w hw_ => ?_) (lW_held hW fun hh w hb => hW.2.2.2.2.2 who w hh (by simp only [Bool.and_eq_true] at hb; exact hb.1))⟩
  rw [h3 _ (by omega), bl_and, e w hw_, eT w hw_]
theorem bE_holdsAll (G : GS q g) {n : Nat} (h0 : I g 0 = nI n) (hn : n ≤ 8) {who : Nat} (hq : who < 7) : ∃ L', fX1_holdsAll g (nI who) (hw q I L) = some ((), hw q I L') ∧ hdG g L L' who ∧ rL_ (L' (g + 11)) (4 * who) (fun w => decide (w < 2 ^ n)) := by
  have h8 := p2_8 hn
  have e := nJ_shl (k := n) (by omega)
  obtain ⟨N, hN⟩ : ∃ N, 2 ^ n = N := ⟨_, rfl⟩
  rw [hN] at h8 e
  rw [hN]
  have ew : ∀ J : lF_, fX1_worlds g (hw q I J) = some (nI N, hw q I J) := fun J => by
    simp (disch := omega) only [fX1_worlds, nL, nI_add, nJ_mul, nJ_div, nJ_mod, nI_leI, nI_ltI, nI_eq, Option.bind_some, Option.bind_none, Nat.one_ne_zero, Nat.zero_ne_one, Nat.zero_add, Nat.add_zero, if_true, if_false, not_true_eq_false, not_false_eq_true, gg_I G, h0, ← e]
  unfold fX1_holdsAll fX1_holdsAll_L2
  have : ∃ t, whl (fun s_1 : Int32 × ph_t => fX1_holdsAll_L2_b g (nI who) s_1.1 s_1.2) (0, hw q I L) = some t ∧ ∃ L', t = ((), hw q I L') ∧ hdG g L L' who ∧ rL_ (L' (g + 11)) (4 * who) (fun w => decide (w < N)) := by
    refine whl_st (α := lF_) (fun i J => (nI i, hw q I J)) (fun i J => hdG g L J who ∧ ∀ k, k < i → J (g + 11) (4 * who + k) = 0) 4 (a := L) rfl ⟨hdG.rf, fun k _ => by omega⟩ ?_ ?_
    · rintro i J hi ⟨f1, f2⟩
      refine ⟨_, by simp (disch := omega) only [fX1_holdsAll_L2_b, nL, nI_add, nJ_mul, nJ_div, nJ_mod, nI_leI, nI_ltI, nI_eq, Option.bind_some, Option.bind_none, Nat.one_ne_zero, Nat.zero_ne_one, Nat.zero_add, Nat.add_zero, if_true, if_false, not_true_eq_false, not_false_eq_true, gg19 G, yg19 G, show ¬ 4 ≤ i by omega] <;> rfl, f1.up (by omega), fun k hk => ?_⟩
      rw [pu_at]
      by_cases c : k = i
      · subst c; rw [if_pos rfl]
      · rw [if_neg (by omega)]; exact f2 k (by omega)
    · rintro J ⟨f1, f2⟩
      have : ∃ t, fX1_holdsAll_L26 g (nI who) (nI 0) (hw q I J) = some t ∧ ∃ L', t = ((), hw q I L') ∧ hdG g L L' who ∧ rL_ (L' (g + 11)) (4 * who) (fun w => decide (w < N)) := by
        unfold fX1_holdsAll_L26
        refine whl_st (α := lF_) (fun i J => (nI i, hw q I J)) (fun i J => hdG g L J who ∧ rL_ (J (g + 11)) (4 * who) (fun w => decide (w < i))) N (a := J) rfl ⟨f1, fun w hw_ => by rw [f2 _ (by omega), bl_0]; exact (decide_eq_false (by omega)).symm⟩ ?_ ?_
        · rintro i J hi ⟨f1, f2⟩
          refine ⟨_, by simp (disch := omega) only [fX1_holdsAll_L26_b, nL, nI_add, nJ_mul, nJ_div, nJ_mod, nI_leI, nI_ltI, nI_eq, Option.bind_some, Option.bind_none, Nat.one_ne_zero, Nat.zero_ne_one, Nat.zero_add, Nat.add_zero, if_true, if_false, not_true_eq_false, not_false_eq_true, dg G, ew, gg19 G, xg19 G, yg19 G, show ¬ N ≤ i by omega] <;> rfl, f1.up (by omega), rL_cong (rL_put f2 (w := i) (by omega)) fun w _ => ?_⟩
          by_cases c : w = i
          · subst c; rw [if_pos rfl, decide_eq_true (by omega)]
          · rw [if_neg c, decide_eq_decide.mpr (show w < i ↔ w < i + 1 by omega)]
        · rintro J ⟨f1, f2⟩
          exact ⟨_, by simp (disch := omega) only [fX1_holdsAll_L26_b, nL, nI_add, nJ_mul, nJ_div, nJ_mod, nI_leI, nI_ltI, nI_eq, Option.bind_some, Option.bind_none, Nat.one_ne_zero, Nat.zero_ne_one, Nat.zero_add, Nat.add_zero, if_true, if_false, not_true_eq_false, not_false_eq_true, dg G, ew, Nat.le_refl, xr_s] <;> rfl, J, rfl, f1, f2⟩
      obtain ⟨t, h1, L', rfl, h2⟩ := this
      exact ⟨_, by simp (disch := omega) only [fX1_holdsAll_L2_b, nL, nI_add, nJ_mul, nJ_div, nJ_mod, nI_leI, nI_ltI, nI_eq, Option.bind_some, Option.bind_none, Nat.one_ne_zero, Nat.zero_ne_one, Nat.zero_add, Nat.add_zero, if_true, if_false, not_true_eq_false, not_false_eq_true, Nat.le_refl, h1, xr_s] <;> rfl, L', rfl, h2⟩
  obtain ⟨t, h1, L', rfl, h2⟩ := this
  exact ⟨L', h1, h2⟩
/-- a fact is seen, in rows alone -/
theorem bE_seen (G : GS q g) {n so : Nat} (h0 : I g 0 = nI n) (h1 : I g 1 = nI so) (hn : n ≤ 8) {who f : Nat} (hq : who < 7) (hf : f < 8) {B : Nat → Bool} (hB : rL_ (L (g + 11)) (4 * who) B) : ∃ L', fX1_isToldFact g (nI who) (nI f) (hw q I L) = some ((), hw q I L') ∧ hdG g L L' who ∧ rL_ (L' (g + 11)) (4 * who) (fun w => B w && (decide (2 ^ n ≤ w) || (w.testBit f == so.testBit f))) := by
  have h8 := p2_8 hn
  have e := nJ_shl (k := n) (by omega)
  obtain ⟨N, hN⟩ : ∃ N, 2 ^ n = N := ⟨_, rfl⟩
  rw [hN] at h8 e
  rw [hN]
  have ew : ∀ J : lF_, fX1_worlds g (hw q I J) = some (nI N, hw q I J) := fun J => by
    simp (disch := omega) only [fX1_worlds, nL, nI_add, nJ_mul, nJ_div, nJ_mod, nI_leI, nI_ltI, nI_eq, Option.bind_some, Option.bind_none, Nat.one_ne_zero, Nat.zero_ne_one, Nat.zero_add, Nat.add_zero, if_true, if_false, not_true_eq_false, not_false_eq_true, gg_I G, h0, ← e]
  unfold fX1_isToldFact fX1_isToldFact_L2
  have : ∃ t, whl (fun s_1 : Int32 × ph_t => fX1_isToldFact_L2_b g (nI who) (nI f) s_1.1 s_1.2) (0, hw q I L) = some t ∧ ∃ L', t = ((), hw q I L') ∧ hdG g L L' who ∧ rL_ (L' (g + 11)) (4 * who) (fun w => B w && (decide (N ≤ w) || (w.testBit f == so.testBit f))) := by
    refine whl_st (α := lF_) (fun i J => (nI i, hw q I J)) (fun i J => hdG g L J who ∧ rL_ (J (g + 11)) (4 * who) (fun w => B w && (decide (i ≤ w) || (w.testBit f == so.testBit f)))) N (a := L) rfl ⟨hdG.rf, rL_cong hB fun w _ => by simp⟩ ?_ ?_
    · rintro i J hi ⟨f1, f2⟩
      by_cases c2 : i.testBit f = so.testBit f
      · refine ⟨J, by simp (disch := omega) only [fX1_isToldFact_L2_b, fX1_isToldFact_L52, nL, nI_add, nJ_mul, nJ_div, nJ_mod, nI_leI, nI_ltI, nI_eq, Option.bind_some, Option.bind_none, Nat.one_ne_zero, Nat.zero_ne_one, Nat.zero_add, Nat.add_zero, if_true, if_false, not_true_eq_false, not_false_eq_true, dg G, ew, bE_hasN, gg_I G, h1, b2_eq, c2, show ¬ N ≤ i by omega], f1, rL_cong f2 fun w _ => ?_⟩
        by_cases c3 : w = i
        · subst c3; simp [c2]
        · rw [decide_eq_decide.mpr (show i ≤ w ↔ i + 1 ≤ w by omega)]
      · refine ⟨_, by simp (disch := omega) only [fX1_isToldFact_L2_b, fX1_isToldFact_L52, nL, nI_add, nJ_mul, nJ_div, nJ_mod, nI_leI, nI_ltI, nI_eq, Option.bind_some, Option.bind_none, Nat.one_ne_zero, Nat.zero_ne_one, Nat.zero_add, Nat.add_zero, if_true, if_false, not_true_eq_false, not_false_eq_true, dg G, ew, bE_hasN, gg_I G, h1, b2_eq, c2, gg19 G, xg19 G, yg19 G, show ¬ N ≤ i by omega] <;> rfl, f1.up (by omega), rL_cong (rL_clr f2 (w := i) (by omega)) fun w _ => ?_⟩
        by_cases c3 : w = i
        · subst c3; simp [c2]
        · rw [if_neg c3, decide_eq_decide.mpr (show i ≤ w ↔ i + 1 ≤ w by omega)]
    · rintro J ⟨f1, f2⟩
      exact ⟨_, by simp (disch := omega) only [fX1_isToldFact_L2_b, nL, nI_add, nJ_mul, nJ_div, nJ_mod, nI_leI, nI_ltI, nI_eq, Option.bind_some, Option.bind_none, Nat.one_ne_zero, Nat.zero_ne_one, Nat.zero_add, Nat.add_zero, if_true, if_false, not_true_eq_false, not_false_eq_true, dg G, ew, Nat.le_refl, xr_s] <;> rfl, J, rfl, f1, f2⟩
  obtain ⟨t, h1, L', rfl, h2⟩ := this
  exact ⟨L', h1, h2⟩
theorem bK_see (K : bK q g I L A T sM) {who f : Nat} (hq : who < lA A 1 2 ∨ who = 6) (hf : f < lA A 1 0) : ∃ L', fX1_isToldFact g (nI who) (nI f) (hw q I L) = some ((), hw q I L') ∧ hdG g L L' who ∧ bK q g I L' (a_see A who f) T sM := by
  have K0 := K
  obtain ⟨X, G, R, hT, hsM, hW, h24, hg⟩ := K
  have h6 := hW.1.2.2.1
  have hn8 := hW.1.1
  obtain ⟨L', e1, e2, e3⟩ := bE_seen (I := I) (L := L) G R.f0 R.f1 hn8 (who := who) (f := f) (by omega) (by omega) (R.hd hq)
  refine ⟨L', e1, e2, K0.next frG.rf e2.fr (glR_hold R e2 (rL_cong e3 fun w _ => ?_)) (lW_held hW fun hh w hb => hW.2.2.2.2.2 who w hh (by simp only [Bool.and_eq_true] at hb; exact hb.1))⟩
  cases c : lH A who w
  · rfl
  · have := hW.2.2.2.2.2 who w hq c
    rw [decide_eq_false (by omega), Bool.false_or]
end BH
