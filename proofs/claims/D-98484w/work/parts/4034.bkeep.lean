/-! P2 BKEEP: TruthBridge: what acts lay behind, undo -/
theorem pC_ne {α : Type} {f : Nat → Nat → α} {s d sp dp n b : Nat} (h : b ≠ d) : ph_c f s d sp dp n b = f b := by
  funext j
  show (if b = d ∧ dp ≤ j ∧ j < dp + n then _ else _) = _
  rw [if_neg (fun z => h z.1)]
theorem pC_at {α : Type} {f : Nat → Nat → α} {s d sp dp n j : Nat} : ph_c f s d sp dp n d j = if dp ≤ j ∧ j < dp + n then f s (sp + (j - dp)) else f d j := by
  show (if d = d ∧ dp ≤ j ∧ j < dp + n then _ else _) = _
  by_cases c : dp ≤ j ∧ j < dp + n
  · rw [if_pos c, if_pos ⟨rfl, c⟩]
  · rw [if_neg c, if_neg (fun z => c z.2)]
theorem pC_in {α : Type} {f : Nat → Nat → α} {s d sp dp n j : Nat} (h : dp ≤ j ∧ j < dp + n) : ph_c f s d sp dp n d j = f s (sp + (j - dp)) := by rw [pC_at, if_pos h]
theorem pC_out {α : Type} {f : Nat → Nat → α} {s d sp dp n j : Nat} (h : j < dp ∨ dp + n ≤ j) : ph_c f s d sp dp n d j = f d j := by rw [pC_at, if_neg (by omega)]
section BKP0
variable {q : ph_t} {I : iF} {L : lF_}
theorem aw_I {a b n m sp dp k : Nat} (hT : ph_T q a = 20) (hN : ph_N q a = n) (hT2 : ph_T q b = 20) (hN2 : ph_N q b = m) (h1 : sp + k ≤ n) (h2 : dp + k ≤ m) (hn : n < 2 ^ 31) (hm : m < 2 ^ 31) : ac_I (hw q I L) (some a) (nI sp) (some b) (nI dp) (nI k) = some (hw q (ph_c I a b sp dp k) L) := by
  simp only [ac_I, Option.bind_some]
  rw [if_pos ⟨hT, hT2, by rw [nI_toInt (by omega)]; omega, by rw [nI_toInt (by omega)]; omega, by rw [nI_toInt (by omega)]; omega, by rw [nI_toInt (by omega), nI_toInt (by omega), show ph_N (hw q I L) a = n from hN]; omega, by rw [nI_toInt (by omega), nI_toInt (by omega), show ph_N (hw q I L) b = m from hN2]; omega⟩, nI_clamp (by omega), nI_clamp (by omega), nI_clamp (by omega)]
  rfl
theorem aw_L {a b n m sp dp k : Nat} (hT : ph_T q a = 21) (hN : ph_N q a = n) (hT2 : ph_T q b = 21) (hN2 : ph_N q b = m) (h1 : sp + k ≤ n) (h2 : dp + k ≤ m) (hn : n < 2 ^ 31) (hm : m < 2 ^ 31) : ac_L (hw q I L) (some a) (nI sp) (some b) (nI dp) (nI k) = some (hw q I (ph_c L a b sp dp k)) := by
  simp only [ac_L, Option.bind_some]
  rw [if_pos ⟨hT, hT2, by rw [nI_toInt (by omega)]; omega, by rw [nI_toInt (by omega)]; omega, by rw [nI_toInt (by omega)]; omega, by rw [nI_toInt (by omega), nI_toInt (by omega), show ph_N (hw q I L) a = n from hN]; omega, by rw [nI_toInt (by omega), nI_toInt (by omega), show ph_N (hw q I L) b = m from hN2]; omega⟩, nI_clamp (by omega), nI_clamp (by omega), nI_clamp (by omega)]
  rfl
/-- between two Gorges' rows -/
theorem ag_I {g g' i j sp dp k : Nat} (G : GS q g) (G' : GS q g') (hi : 1 ≤ i ∧ i < 14 ∧ gtg i = 20) (hj : 1 ≤ j ∧ j < 14 ∧ gtg j = 20) (h1 : sp + k ≤ glg i) (h2 : dp + k ≤ glg j) (hn : glg i < 2 ^ 31) (hm : glg j < 2 ^ 31) : ac_I (hw q I L) (some (g + i)) (nI sp) (some (g' + j)) (nI dp) (nI k) = some (hw q (ph_c I (g + i) (g' + j) sp dp k) L) :=
  aw_I ((G.T hi.2.1).trans hi.2.2) (G.N hi.1 hi.2.1) ((G'.T hj.2.1).trans hj.2.2) (G'.N hj.1 hj.2.1) h1 h2 hn hm
theorem ag_L {g g' i j sp dp k : Nat} (G : GS q g) (G' : GS q g') (hi : 1 ≤ i ∧ i < 14 ∧ gtg i = 21) (hj : 1 ≤ j ∧ j < 14 ∧ gtg j = 21) (h1 : sp + k ≤ glg i) (h2 : dp + k ≤ glg j) (hn : glg i < 2 ^ 31) (hm : glg j < 2 ^ 31) : ac_L (hw q I L) (some (g + i)) (nI sp) (some (g' + j)) (nI dp) (nI k) = some (hw q I (ph_c L (g + i) (g' + j) sp dp k)) :=
  aw_L ((G.T hi.2.1).trans hi.2.2) (G.N hi.1 hi.2.1) ((G'.T hj.2.1).trans hj.2.2) (G'.N hj.1 hj.2.1) h1 h2 hn hm
end BKP0
theorem glg_1 : glg 1 = 6 ∧ glg 2 = 6 ∧ glg 3 = 6 ∧ glg 4 = 6 ∧ glg 5 = 6 ∧ glg 6 = 6 ∧ glg 7 = 36 ∧ glg 8 = 8 ∧ glg 9 = 8 ∧ glg 10 = 20 ∧ glg 11 = 28 ∧ glg 12 = 560 ∧ glg 13 = 400 := by decide
/-- a row of the past at a Gorge -/
def gpR (I : iF) (L : lF_) (g m k : Nat) (r : pa_s) : Prop := I (g + 13) (20 * k) = nI (r.1 1 1) ∧ I (g + 13) (20 * k + 1) = nI (r.1 1 6) ∧ (∀ p, p < m → I (g + 13) (20 * k + 2 + p) = nI (r.1 2 p) ∧ I (g + 13) (20 * k + 8 + p) = nI (r.1 5 p) ∧ I (g + 13) (20 * k + 14 + p) = nI (r.1 6 p)) ∧
    ∀ who, who < m ∨ who = 6 → rL_ (L (g + 12)) (28 * k + 4 * who) (r.2 who)
theorem glS_past {I I' : iF} {L L' : lF_} {g : Nat} {A A' : ld_t} (S : glS I L g A) (hg : ∀ j, j ≠ 1 → j ≠ 6 → j ≠ 7 → I' g j = I g j) (h7 : I' g 7 = nI (lA A' 0 0)) (h : ∀ a, (a = g + 2 ∨ a = g + 3 ∨ (g + 6 ≤ a ∧ a ≤ g + 10)) → I' a = I a) (hA : ∀ f i, stF f i → ¬ (f = 0 ∧ i = 0) → lA A' f i = lA A f i) (ps : ∀ k, k < lA A' 0 0 → gpR I' L' g (lA A 1 2) k (lP A' k)) : glS I' L' g A' := by
  have s : ∀ {f i : Nat}, f ≠ 0 → f ≠ 2 → f ≠ 5 → f ≠ 6 → (f ≠ 1 ∨ (i ≠ 1 ∧ i ≠ 6 ∧ i ≠ 8)) → lA A' f i = lA A f i := fun {f i} h0 h1 h2 h3 h4 => hA f i ⟨h1, h2, h3, by omega, by omega, by omega⟩ (by omega)
  have ef : a_far A' = a_far A := a_far_eq (s (by decide) (by decide) (by decide) (by decide) (by decide)) (fun f k h1 h2 => s (by omega) (by omega) (by omega) (by omega) (by omega))
  have e1 : ∀ j, (j ≠ 1 ∧ j ≠ 6 ∧ j ≠ 8) → lA A' 1 j = lA A 1 j := fun j hj => s (by decide) (by decide) (by decide) (by decide) (Or.inr hj)
  have e2 : ∀ f, (f = 3 ∨ f = 4 ∨ 7 ≤ f) → ∀ j, lA A' f j = lA A f j := fun f hf j => s (by omega) (by omega) (by omega) (by omega) (by omega)
  obtain ⟨⟨s0, s2, s3, s4, s5, s7, s8⟩, sp, k7, fa, tu, tr, -⟩ := S
  unfold glS
  rw [ef, h7, hg 0 (by decide) (by decide) (by decide), hg 2 (by decide) (by decide) (by decide), hg 3 (by decide) (by decide) (by decide), hg 4 (by decide) (by decide) (by decide), hg 5 (by decide) (by decide) (by decide), hg 8 (by decide) (by decide) (by decide), h (g + 2) (by omega), h (g + 3) (by omega), h (g + 6) (by omega), h (g + 7) (by omega), h (g + 8) (by omega), h (g + 9) (by omega), h (g + 10) (by omega)]
  simp only [e1 0 (by decide), e1 2 (by decide), e1 3 (by decide), e1 4 (by decide), e1 5 (by decide), e1 7 (by decide), e2 3 (by decide), e2 4 (by decide), e2 7 (by decide), e2 11 (by decide), e2 12 (by decide), e2 13 (by decide), e2 14 (by decide)]
  exact ⟨⟨s0, s2, s3, s4, s5, trivial, s8⟩, sp, k7, fa, tu, tr, ps⟩
section BKP
variable {q : ph_t} {I : iF} {L : lF_} {A : ld_t} {T : Nat → Nat → Bool} {sM g : Nat}
theorem bE_lays (G : GS q g) {k : Nat} (hk : k < 20) : ∃ I' L', fX1_lays g (nI k) (hw q I L) = some ((), hw q I' L') ∧ (∀ a, a ≠ g + 13 → I' a = I a) ∧ (∀ a, a ≠ g + 12 → L' a = L a) ∧ I' (g + 13) (20 * k) = I g 1 ∧ I' (g + 13) (20 * k + 1) = I g 6 ∧ (∀ p, p < 6 → I' (g + 13) (20 * k + 2 + p) = I (g + 1) p ∧ I' (g + 13) (20 * k + 8 + p) = I (g + 4) p ∧ I' (g + 13) (20 * k + 14 + p) = I (g + 5) p) ∧ (∀ j, (j < 20 * k ∨ 20 * k + 20 ≤ j) → I' (g + 13) j = I (g + 13) j) ∧ (∀ j, j < 28 → L' (g + 12) (28 * k + j) = L (g + 11) j) ∧ ∀ j, (j < 28 * k ∨ 28 * k + 28 ≤ j) → L' (g + 12) j = L (g + 12) j := by
  obtain ⟨l1, l2, l3, l4, l5, l6, l7, l8, l9, l10, l11, l12, l13⟩ := glg_1
  have c1 := fun (J : iF) => ag_I (I := J) (L := L) (i := 1) (j := 13) (sp := 0) (dp := 20 * k + 2) (k := 6) G G (by decide) (by decide) (by omega) (by omega) (by omega) (by omega)
  have c2 := fun (J : iF) => ag_I (I := J) (L := L) (i := 4) (j := 13) (sp := 0) (dp := 20 * k + 8) (k := 6) G G (by decide) (by decide) (by omega) (by omega) (by omega) (by omega)
  have c3 := fun (J : iF) => ag_I (I := J) (L := L) (i := 5) (j := 13) (sp := 0) (dp := 20 * k + 14) (k := 6) G G (by decide) (by decide) (by omega) (by omega) (by omega) (by omega)
  have c4 := fun (J : iF) => ag_L (I := J) (L := L) (i := 11) (j := 12) (sp := 0) (dp := 28 * k) (k := 28) G G (by decide) (by decide) (by omega) (by omega) (by omega) (by omega)
  refine ⟨ph_c (ph_c (ph_c (ph_u (ph_u I (g + 13) (20 * k) (I g 1)) (g + 13) (20 * k + 1) (I g 6)) (g + 1) (g + 13) 0 (20 * k + 2) 6) (g + 4) (g + 13) 0 (20 * k + 8) 6) (g + 5) (g + 13) 0 (20 * k + 14) 6, ph_c L (g + 11) (g + 12) 0 (28 * k) 28, ?_, fun a ha => ?_, fun a ha => ?_, ?_, ?_, fun p hp => ⟨?_, ?_, ?_⟩, fun j hj => ?_, fun j hj => ?_, fun j hj => ?_⟩
  · simp (disch := omega) only [fX1_lays, nm_, nL, nI_add, nJ_mul, nJ_div, nJ_mod, nI_leI, nI_ltI, nI_eq, Option.bind_some, Option.bind_none, Nat.one_ne_zero, Nat.zero_ne_one, Nat.zero_add, Nat.add_zero, if_true, if_false, not_true_eq_false, not_false_eq_true, gg9 G, gg12 G, gg13 G, gg19 G, gg20 G, gg21 G, gg_I G, yg21 G, c1, c2, c3, c4, pu_ne]
  · rw [pC_ne ha, pC_ne ha, pC_ne ha, pu_ne ha, pu_ne ha]
  · rw [pC_ne ha]
  · rw [pC_out (by omega), pC_out (by omega), pC_out (by omega), pu_nk (by omega), pu_eq]
  · rw [pC_out (by omega), pC_out (by omega), pC_out (by omega), pu_eq]
  · rw [pC_out (by omega), pC_out (by omega), pC_in (by omega), pu_ne (by omega), pu_ne (by omega)]
    congr 1
    omega
  · rw [pC_out (by omega), pC_in (by omega), pC_ne (by omega), pu_ne (by omega), pu_ne (by omega)]
    congr 1
    omega
  · rw [pC_in (by omega), pC_ne (by omega), pC_ne (by omega), pu_ne (by omega), pu_ne (by omega)]
    congr 1
    omega
  · rw [pC_out (by omega), pC_out (by omega), pC_out (by omega), pu_nk (by omega), pu_nk (by omega)]
  · rw [pC_in (by omega)]
    congr 1
    omega
  · rw [pC_out (by omega)]
theorem bE_takes (G : GS q g) {k : Nat} (hk : k < 20) : ∃ I' L', fX1_takes g (nI k) (hw q I L) = some ((), hw q I' L') ∧ (∀ a, a ≠ g → a ≠ g + 1 → a ≠ g + 4 → a ≠ g + 5 → I' a = I a) ∧ (∀ j, j ≠ 1 → j ≠ 6 → I' g j = I g j) ∧ (∀ a, a ≠ g + 11 → L' a = L a) ∧ I' g 1 = I (g + 13) (20 * k) ∧ I' g 6 = I (g + 13) (20 * k + 1) ∧ (∀ p, p < 6 → I' (g + 1) p = I (g + 13) (20 * k + 2 + p) ∧ I' (g + 4) p = I (g + 13) (20 * k + 8 + p) ∧ I' (g + 5) p = I (g + 13) (20 * k + 14 + p)) ∧ ∀ j, j < 28 → L' (g + 11) j = L (g + 12) (28 * k + j) := by
  obtain ⟨l1, l2, l3, l4, l5, l6, l7, l8, l9, l10, l11, l12, l13⟩ := glg_1
  have c1 := fun (J : iF) => ag_I (I := J) (L := L) (i := 13) (j := 1) (sp := 20 * k + 2) (dp := 0) (k := 6) G G (by decide) (by decide) (by omega) (by omega) (by omega) (by omega)
  have c2 := fun (J : iF) => ag_I (I := J) (L := L) (i := 13) (j := 4) (sp := 20 * k + 8) (dp := 0) (k := 6) G G (by decide) (by decide) (by omega) (by omega) (by omega) (by omega)
  have c3 := fun (J : iF) => ag_I (I := J) (L := L) (i := 13) (j := 5) (sp := 20 * k + 14) (dp := 0) (k := 6) G G (by decide) (by decide) (by omega) (by omega) (by omega) (by omega)
  have c4 := fun (J : iF) => ag_L (I := J) (L := L) (i := 12) (j := 11) (sp := 28 * k) (dp := 0) (k := 28) G G (by decide) (by decide) (by omega) (by omega) (by omega) (by omega)
  refine ⟨ph_c (ph_c (ph_c (ph_u (ph_u I g 1 (I (g + 13) (20 * k))) g 6 (I (g + 13) (20 * k + 1))) (g + 13) (g + 1) (20 * k + 2) 0 6) (g + 13) (g + 4) (20 * k + 8) 0 6) (g + 13) (g + 5) (20 * k + 14) 0 6, ph_c L (g + 12) (g + 11) (28 * k) 0 28, ?_, fun a h0 h1 h4 h5 => ?_, fun j j1 j6 => ?_, fun a ha => ?_, ?_, ?_, fun p hp => ⟨?_, ?_, ?_⟩, fun j hj => ?_⟩
  · simp (disch := omega) only [fX1_takes, nm_, nL, nI_add, nJ_mul, nJ_div, nJ_mod, nI_leI, nI_ltI, nI_eq, Option.bind_some, Option.bind_none, Nat.one_ne_zero, Nat.zero_ne_one, Nat.zero_add, Nat.add_zero, if_true, if_false, not_true_eq_false, not_false_eq_true, gg9 G, gg12 G, gg13 G, gg19 G, gg20 G, gg21 G, sg_I G, xg21 G, c1, c2, c3, c4, pu_ne]
  · rw [pC_ne h5, pC_ne h4, pC_ne h1, pu_ne h0, pu_ne h0]
  · rw [pC_ne (by omega), pC_ne (by omega), pC_ne (by omega), pu_nk j6, pu_nk j1]
  · rw [pC_ne ha]
  · rw [pC_ne (by omega), pC_ne (by omega), pC_ne (by omega), pu_nk (by omega), pu_eq]
  · rw [pC_ne (by omega), pC_ne (by omega), pC_ne (by omega), pu_eq]
  · rw [pC_ne (by omega), pC_ne (by omega), pC_in (by omega), pu_ne (by omega), pu_ne (by omega)]
    congr 1
  · rw [pC_ne (by omega), pC_in (by omega), pC_ne (by omega), pu_ne (by omega), pu_ne (by omega)]
    congr 1
  · rw [pC_in (by omega), pC_ne (by omega), pC_ne (by omega), pu_ne (by omega), pu_ne (by omega)]
    congr 1
  · rw [pC_in (by omega)]
    congr 1
theorem bK_keep71 (K : bK q 66 I L A T sM) (hl : ph_R q 64 2 = some 66) {In : iF} {Ln : lF_} (g1 : ∀ c, c ≠ 66 → c ≠ 79 → In c = I c) (g2 : ∀ j, j ≠ 7 → In 66 j = I 66 j) (g3 : In 66 7 = nI (kn0 A)) (g4 : ∀ c, c ≠ 78 → Ln c = L c) (g5 : ∀ j, j < 20 * kn0 A → In 79 j = I 79 (j + 20 * ksh A)) (g6 : ∀ j, j < 28 * kn0 A → Ln 78 j = L 78 (j + 28 * ksh A)) :
    ∃ I' L', fX0_keepsAct_L71 64 (hw q In Ln) = some ((), hw q I' L') ∧ frG 66 I I' ∧ frH 66 L L' ∧ bK q 66 I' L' (a_keep A) T sM := by
  have K0 := K
  obtain ⟨X, G, R, hT, hsM, hW, h24, hg⟩ := K
  have h6 := hW.1.2.2.1
  obtain ⟨k1, k2⟩ := kn0_le hW
  obtain ⟨I', L', e1, f1, f2, f3, f4, f5, f6, f7, f8⟩ := bE_lays (I := In) (L := Ln) G (k := kn0 A) (by omega)
  simp only [Nat.reduceAdd] at f1 f2 f3 f4 f5 f6 f7 f8
  have i7 : I' 66 7 = nI (kn0 A) := by rw [f1 66 (by decide), g3]
  have fr : frG 66 I (ph_u I' 66 7 (nI (kn0 A + 1))) := fun a ha => by rw [pu_ne (by omega), f1 a (by omega), g1 a (by omega) (by omega)]
  have frh : frH 66 L L' := fun a ha => by rw [f2 a (by omega), g4 a (by omega)]
  have same : ∀ a, a ≠ 66 → a ≠ 79 → ph_u I' 66 7 (nI (kn0 A + 1)) a = I a := fun a a1 a2 => by rw [pu_ne a1, f1 a a2, g1 a a1 a2]
  have s66 : ∀ j, j ≠ 7 → ph_u I' 66 7 (nI (kn0 A + 1)) 66 j = I 66 j := fun j hj => by rw [pu_nk hj, f1 66 (by decide), g2 j hj]
  refine ⟨ph_u I' 66 7 (nI (kn0 A + 1)), L', ?_, fr, frh, K0.next fr frh (glR_SD (glS_past R.S (fun j _ _ j7 => s66 j j7) (by rw [pu_eq]; rfl) (fun a ha => same a (by omega) (by omega)) (fun f i h h0 => a_keep_A h0) (fun k hk => ?_)) ⟨?_, ?_, fun p hp => ?_, fun who hq => ?_⟩) (lW_keep hW)⟩
  · simp (disch := omega) only [fX0_keepsAct_L71, nL, nI_add, nJ_mul, nJ_div, nJ_mod, nI_leI, nI_ltI, nI_eq, Option.bind_some, Option.bind_none, Nat.one_ne_zero, Nat.zero_ne_one, Nat.zero_add, Nat.add_zero, if_true, if_false, not_true_eq_false, not_false_eq_true, gx2 X hl, gl_I G, sl_I G, dl G, g3, e1, i7]
  · rw [a_keep_0] at hk
    unfold gpR
    rw [a_keep_P, show (66 : Nat) + 13 = 79 from rfl, show (66 : Nat) + 12 = 78 from rfl, pu_ne (show 79 ≠ 66 by decide)]
    by_cases c : k = kn0 A
    · subst c
      rw [if_pos rfl]
      refine ⟨?_, ?_, fun p hp => ?_, fun who hq => ?_⟩
      · rw [f3, g2 1 (by decide)]; exact R.f1
      · rw [f4, g2 6 (by decide)]; exact R.f6
      · rw [(f5 p (by omega)).1, (f5 p (by omega)).2.1, (f5 p (by omega)).2.2, g1 _ (by decide) (by decide), g1 _ (by decide) (by decide), g1 _ (by decide) (by decide)]
        exact ⟨R.p1 hp, R.p4 hp, R.p5 hp⟩
      · intro w hw_
        rw [Nat.add_assoc, f7 _ (by omega), g4 _ (by decide)]
        exact R.hd hq w hw_
    · rw [if_neg c]
      have e9 : ∀ j, j < 20 → I' 79 (20 * k + j) = I 79 (20 * (k + ksh A) + j) := fun j hj => by
        rw [f6 _ (by omega), g5 _ (by omega)]
        congr 1
        omega
      have e8 : ∀ j, j < 28 → L' 78 (28 * k + j) = L 78 (28 * (k + ksh A) + j) := fun j hj => by
        rw [f8 _ (by omega), g6 _ (by omega)]
        congr 1
        omega
      obtain ⟨r1, r2, r3, r4⟩ := R.2.2.2.2.2.2.2 (k + ksh A) (by omega)
      refine ⟨(e9 0 (by omega)).trans r1, (e9 1 (by omega)).trans r2, fun p hp => ?_, fun who hq w hw_ => ?_⟩
      · rw [Nat.add_assoc, Nat.add_assoc, Nat.add_assoc, e9 _ (by omega), e9 _ (by omega), e9 _ (by omega), ← Nat.add_assoc, ← Nat.add_assoc, ← Nat.add_assoc]
        exact r3 p hp
      · have := r4 who hq w hw_
        rw [Nat.add_assoc, e8 _ (by omega), ← Nat.add_assoc]
        exact this
  · rw [s66 1 (by decide)]; exact R.f1
  · rw [s66 6 (by decide)]; exact R.f6
  · rw [same _ (by decide) (by decide), same _ (by decide) (by decide), same _ (by decide) (by decide)]
    exact R.D.2.2.1 p hp
  · rw [f2 _ (by decide), g4 _ (by decide)]
    exact R.hd hq
theorem bK_keepsAct (K : bK q 66 I L A T sM) (hl : ph_R q 64 2 = some 66) : ∃ I' L', fX0_keepsAct 64 (hw q I L) = some ((), hw q I' L') ∧ frG 66 I I' ∧ frH 66 L L' ∧ bK q 66 I' L' (a_keep A) T sM := by
  have K0 := K
  obtain ⟨X, G, R, hT, hsM, hW, h24, hg⟩ := K
  have h20 := hW.1.2.2.2.2.2.2.2.2
  have e7 := R.f7
  by_cases c : lA A 0 0 = 20
  · have e19 : kn0 A = 19 := if_pos c
    have es : ksh A = 1 := if_pos c
    obtain ⟨l1, l2, l3, l4, l5, l6, l7, l8, l9, l10, l11, l12, l13⟩ := glg_1
    have c1 := fun (M : lF_) => ag_I (I := I) (L := M) (i := 13) (j := 13) (sp := 20) (dp := 0) (k := 380) G G (by decide) (by decide) (by omega) (by omega) (by omega) (by omega)
    have c2 := fun (J : iF) => ag_L (I := J) (L := L) (i := 12) (j := 12) (sp := 28) (dp := 0) (k := 532) G G (by decide) (by decide) (by omega) (by omega) (by omega) (by omega)
    simp only [Nat.reduceAdd] at c1 c2
    obtain ⟨I', L', e1, e2, e3, e4⟩ := bK_keep71 K0 hl (In := ph_u (ph_c I 79 79 20 0 380) 66 7 (nI 19)) (Ln := ph_c L 78 78 28 0 532) (fun d d1 d2 => by rw [pu_ne d1, pC_ne d2]) (fun j hj => by rw [pu_nk hj, pC_ne (by decide)]) (by rw [pu_eq, e19]) (fun d hd => pC_ne hd) (fun j hj => by
      rw [e19] at hj
      rw [pu_ne (by decide), pC_in (by omega), es]
      congr 1
      omega) (fun j hj => by
      rw [e19] at hj
      rw [pC_in (by omega), es]
      congr 1
      omega)
    refine ⟨I', L', ?_, e2, e3, e4⟩
    rw [c] at e7
    simp (disch := omega) only [fX0_keepsAct, nL, nI_add, nJ_mul, nJ_div, nJ_mod, nI_leI, nI_ltI, nI_eq, Option.bind_some, Option.bind_none, Nat.one_ne_zero, Nat.zero_ne_one, Nat.zero_add, Nat.add_zero, if_true, if_false, not_true_eq_false, not_false_eq_true, gx2 X hl, gl_I G, sl_I G, gl20 G, gl21 G, e7, c1, c2, pC_ne, nJ_sub, e1]
  · have e19 : kn0 A = lA A 0 0 := if_neg c
    have es : ksh A = 0 := if_neg c
    obtain ⟨I', L', e1, e2, e3, e4⟩ := bK_keep71 K0 hl (In := I) (Ln := L) (fun _ _ _ => rfl) (fun _ _ => rfl) (by rw [e19]; exact e7) (fun _ _ => rfl) (fun j _ => by rw [es]; rfl) (fun j _ => by rw [es]; rfl)
    refine ⟨I', L', ?_, e2, e3, e4⟩
    simp (disch := omega) only [fX0_keepsAct, nL, nI_add, nJ_mul, nJ_div, nJ_mod, nI_leI, nI_ltI, nI_eq, Option.bind_some, Option.bind_none, Nat.one_ne_zero, Nat.zero_ne_one, Nat.zero_add, Nat.add_zero, if_true, if_false, not_true_eq_false, not_false_eq_true, gx2 X hl, gl_I G, e7, c, e1]
theorem bK_undo (K : bK q 66 I L A T sM) (hl : ph_R q 64 2 = some 66) (V : lW2 A) (h : 0 < lA A 0 0) : ∃ I' L', fX0_undo 64 (hw q I L) = some (nI (lA A 0 0 - 1), hw q I' L') ∧ frG 66 I I' ∧ frH 66 L L' ∧ bK q 66 I' L' (a_undo A) T sM := by
  have K0 := K
  obtain ⟨X, G, R, hT, hsM, hW, h24, hg⟩ := K
  have h20 := hW.1.2.2.2.2.2.2.2.2
  have h6 := hW.1.2.2.1
  obtain ⟨n, hn⟩ : ∃ n, lA A 0 0 = n + 1 := ⟨lA A 0 0 - 1, by omega⟩
  have hn1 : lA A 0 0 - 1 = n := by omega
  have e7 := R.f7
  rw [hn] at e7
  obtain ⟨I', L', e1, f1, f2, f3, f4, f5, f6, f7⟩ := bE_takes (I := ph_u I 66 7 (nI n)) (L := L) G (k := n) (by omega)
  simp only [Nat.reduceAdd] at f1 f2 f3 f4 f5 f6 f7
  rw [pu_ne (by decide)] at f4 f5
  have f1 : ∀ a, a ≠ 66 → a ≠ 67 → a ≠ 70 → a ≠ 71 → I' a = I a := fun a a1 a2 a3 a4 => by rw [f1 a a1 a2 a3 a4, pu_ne a1]
  have f6 : ∀ p, p < 6 → I' 67 p = I 79 (20 * n + 2 + p) ∧ I' 70 p = I 79 (20 * n + 8 + p) ∧ I' 71 p = I 79 (20 * n + 14 + p) := fun p hp => by
    have := f6 p hp
    rw [pu_ne (by decide)] at this
    exact this
  have i7 : I' 66 7 = nI n := by rw [f2 7 (by decide) (by decide), pu_eq]
  have f2 : ∀ j, j ≠ 1 → j ≠ 6 → j ≠ 7 → I' 66 j = I 66 j := fun j j1 j2 j3 => by rw [f2 j j1 j2, pu_nk j3]
  obtain ⟨r1, r2, r3, r4⟩ := R.2.2.2.2.2.2.2 n (by omega)
  have fr : frG 66 I I' := fun a ha => f1 a (by omega) (by omega) (by omega) (by omega)
  have frh : frH 66 L L' := fun a ha => f3 a (by omega)
  rw [hn1]
  refine ⟨I', L', ?_, fr, frh, K0.next fr frh (glR_SD (glS_past R.S f2 (by rw [i7, ← hn1]; rfl) (fun a ha => f1 a (by omega) (by omega) (by omega) (by omega)) (fun f i hs h0 => ?_) (fun k hk => ?_)) ⟨?_, ?_, fun p hp => ?_, fun who hq => ?_⟩) (lW_undo hW V h)⟩
  · simp (disch := omega) only [fX0_undo, nL, nI_add, nJ_mul, nJ_div, nJ_mod, nI_leI, nI_ltI, nI_eq, Option.bind_some, Option.bind_none, Nat.one_ne_zero, Nat.zero_ne_one, Nat.zero_add, Nat.add_zero, if_true, if_false, not_true_eq_false, not_false_eq_true, gx2 X hl, nq_66, gl_I G, sl_I G, dl G, e7, show ¬ n + 1 = 0 by omega, nJ_sub, Nat.add_sub_cancel, pu_eq, e1, i7]
  · show un_ A _ f i = _
    unfold un_
    rw [if_neg h0, if_neg hs.2.2.2.2.1, if_neg hs.2.2.2.1, if_neg (fun z => z.elim hs.1 (fun z => z.elim hs.2.1 hs.2.2.1))]
  · have hk : k < lA A 0 0 - 1 := hk
    obtain ⟨s1, s2, s3, s4⟩ := R.2.2.2.2.2.2.2 k (by omega)
    unfold gpR
    rw [show (66 : Nat) + 13 = 79 from rfl, show (66 : Nat) + 12 = 78 from rfl, f1 79 (by decide) (by decide) (by decide) (by decide), f3 78 (by decide)]
    exact ⟨s1, s2, s3, s4⟩
  · rw [f4]
    show _ = nI (un_ A (lA A 0 0 - 1) 1 1)
    rw [hn1]
    exact r1
  · rw [f5]
    show _ = nI (un_ A (lA A 0 0 - 1) 1 6)
    rw [hn1]
    exact r2
  · have hp : p < lA A 1 2 := hp
    have z := f6 p (by omega)
    have y := r3 p hp
    refine ⟨?_, ?_, ?_⟩
    · show I' 67 p = nI (un_ A (lA A 0 0 - 1) 2 p)
      rw [hn1]
      exact z.1.trans y.1
    · show I' 70 p = nI (un_ A (lA A 0 0 - 1) 5 p)
      rw [hn1]
      exact z.2.1.trans y.2.1
    · show I' 71 p = nI (un_ A (lA A 0 0 - 1) 6 p)
      rw [hn1]
      exact z.2.2.trans y.2.2
  · intro w hw_
    have hq : who < lA A 1 2 ∨ who = 6 := hq
    rw [f7 _ (by omega), ← Nat.add_assoc]
    show _ = (lP A (lA A 0 0 - 1)).2 who w
    rw [hn1]
    exact r4 who hq w hw_
end BKP
