/-! P2 BCOPY: TruthBridge: Gorges are copied -/
theorem glR_copy {I I' : iF} {L L' : lF_} {g g' : Nat} {A : ld_t} (W : lW A) (R : glR I L g A) (hf : ∀ j, j < 9 → I' g' j = I g j) (hI : ∀ j, 1 ≤ j → j < 14 → j ≠ 11 → j ≠ 12 → ∀ i, i < glg j → I' (g' + j) i = I (g + j) i) (h11 : ∀ i, i < 28 → L' (g' + 11) i = L (g + 11) i) (h12 : ∀ i, i < 560 → L' (g' + 12) i = L (g + 12) i) : glR I' L' g' A := by
  obtain ⟨l1, l2, l3, l4, l5, l6, l7, l8, l9, l10, l11, l12, l13⟩ := glg_1
  obtain ⟨⟨w0, w1, w2, w3, w4, w5, w6, w7, w8⟩, -⟩ := W
  have H : ∀ j i, 1 ≤ j → j < 14 → j ≠ 11 → j ≠ 12 → i < glg j → I' (g' + j) i = I (g + j) i := fun j i h1 h2 h3 h4 h5 => hI j h1 h2 h3 h4 i h5
  refine ⟨⟨?_, ?_, ?_, ?_, ?_, ?_, ?_, ?_, ?_⟩, fun p hp => ⟨?_, ?_, ?_, ?_, ?_⟩, fun k hk => ?_, fun a b ha hb => ?_, fun t ht => ⟨?_, ?_⟩, fun k hk => ⟨?_, ?_⟩, fun who hq w hw_ => ?_, fun k hk => ⟨?_, ?_, fun p hp => ⟨?_, ?_, ?_⟩, fun who hq w hw_ => ?_⟩⟩
  · rw [hf _ (by decide)]; exact R.f0
  · rw [hf _ (by decide)]; exact R.f1
  · rw [hf _ (by decide)]; exact R.f2
  · rw [hf _ (by decide)]; exact R.f3
  · rw [hf _ (by decide)]; exact R.f4
  · rw [hf _ (by decide)]; exact R.f5
  · rw [hf _ (by decide)]; exact R.f6
  · rw [hf _ (by decide)]; exact R.f7
  · rw [hf _ (by decide)]; exact R.f8
  · rw [H 1 _ (by decide) (by decide) (by decide) (by decide) (by omega)]; exact R.p1 hp
  · rw [H 2 _ (by decide) (by decide) (by decide) (by decide) (by omega)]; exact R.p2 hp
  · rw [H 3 _ (by decide) (by decide) (by decide) (by decide) (by omega)]; exact R.p3 hp
  · rw [H 4 _ (by decide) (by decide) (by decide) (by decide) (by omega)]; exact R.p4 hp
  · rw [H 5 _ (by decide) (by decide) (by decide) (by decide) (by omega)]; exact R.p5 hp
  · rw [H 6 _ (by decide) (by decide) (by decide) (by decide) (by omega)]; exact R.p6 hk
  · rw [H 7 _ (by decide) (by decide) (by decide) (by decide) (by omega)]; exact R.p7 ha hb
  · rw [H 8 _ (by decide) (by decide) (by decide) (by decide) (by omega)]; exact R.p8 ht
  · rw [H 9 _ (by decide) (by decide) (by decide) (by decide) (by omega)]; exact R.p9 ht
  · rw [H 10 _ (by decide) (by decide) (by decide) (by decide) (by omega)]; exact R.q10 hk
  · rw [H 10 _ (by decide) (by decide) (by decide) (by decide) (by omega)]; exact R.q11 hk
  · rw [h11 _ (by omega)]; exact R.hd hq w hw_
  · rw [H 13 _ (by decide) (by decide) (by decide) (by decide) (by omega)]; exact (R.2.2.2.2.2.2.2 k hk).1
  · rw [H 13 _ (by decide) (by decide) (by decide) (by decide) (by omega)]; exact (R.2.2.2.2.2.2.2 k hk).2.1
  · rw [H 13 _ (by decide) (by decide) (by decide) (by decide) (by omega)]; exact ((R.2.2.2.2.2.2.2 k hk).2.2.1 p hp).1
  · rw [H 13 _ (by decide) (by decide) (by decide) (by decide) (by omega)]; exact ((R.2.2.2.2.2.2.2 k hk).2.2.1 p hp).2.1
  · rw [H 13 _ (by decide) (by decide) (by decide) (by decide) (by omega)]; exact ((R.2.2.2.2.2.2.2 k hk).2.2.1 p hp).2.2
  · rw [h12 _ (by omega)]; exact (R.2.2.2.2.2.2.2 k hk).2.2.2 who hq w hw_
section BCP
variable {q : ph_t} {I : iF} {L : lF_} {A : ld_t} {T : Nat → Nat → Bool} {sM g g' : Nat}
/-- what acts change is copied -/
theorem bE_stands (G : GS q g) (G' : GS q g') (hd : g + 13 < g' ∨ g' + 13 < g) : ∃ I' L', fX1_standsAs g' (some g) (hw q I L) = some (some g', hw q I' L') ∧ (∀ a, a ≠ g' → a ≠ g' + 1 → a ≠ g' + 4 → a ≠ g' + 5 → I' a = I a) ∧ (∀ j, j ≠ 1 → j ≠ 6 → I' g' j = I g' j) ∧ (∀ a, a ≠ g' + 11 → L' a = L a) ∧ I' g' 1 = I g 1 ∧ I' g' 6 = I g 6 ∧ (∀ p, p < 6 → I' (g' + 1) p = I (g + 1) p ∧ I' (g' + 4) p = I (g + 4) p ∧ I' (g' + 5) p = I (g + 5) p) ∧ ∀ j, j < 28 → L' (g' + 11) j = L (g + 11) j := by
  obtain ⟨l1, l2, l3, l4, l5, l6, l7, l8, l9, l10, l11, l12, l13⟩ := glg_1
  have c1 := fun (J : iF) => ag_I (I := J) (L := L) (i := 1) (j := 1) (sp := 0) (dp := 0) (k := 6) G G' (by decide) (by decide) (by omega) (by omega) (by omega) (by omega)
  have c2 := fun (J : iF) => ag_I (I := J) (L := L) (i := 4) (j := 4) (sp := 0) (dp := 0) (k := 6) G G' (by decide) (by decide) (by omega) (by omega) (by omega) (by omega)
  have c3 := fun (J : iF) => ag_I (I := J) (L := L) (i := 5) (j := 5) (sp := 0) (dp := 0) (k := 6) G G' (by decide) (by decide) (by omega) (by omega) (by omega) (by omega)
  have c4 := fun (J : iF) => ag_L (I := J) (L := L) (i := 11) (j := 11) (sp := 0) (dp := 0) (k := 28) G G' (by decide) (by decide) (by omega) (by omega) (by omega) (by omega)
  refine ⟨ph_c (ph_c (ph_c (ph_u (ph_u I g' 1 (I g 1)) g' 6 (I g 6)) (g + 1) (g' + 1) 0 0 6) (g + 4) (g' + 4) 0 0 6) (g + 5) (g' + 5) 0 0 6, ph_c L (g + 11) (g' + 11) 0 0 28, ?_, fun a h0 h1 h4 h5 => ?_, fun j j1 j6 => ?_, fun a ha => ?_, ?_, ?_, fun p hp => ⟨?_, ?_, ?_⟩, fun j hj => ?_⟩
  · simp (disch := omega) only [fX1_standsAs, nL, nI_add, nJ_mul, nJ_div, nJ_mod, nI_leI, nI_ltI, nI_eq, Option.bind_some, Option.bind_none, Nat.one_ne_zero, Nat.zero_ne_one, Nat.zero_add, Nat.add_zero, if_true, if_false, not_true_eq_false, not_false_eq_true, gg9 G, gg12 G, gg13 G, gg19 G, gg9 G', gg12 G', gg13 G', gg19 G', gg_I G, sg_I G', c1, c2, c3, c4, pu_ne]
  · rw [pC_ne h5, pC_ne h4, pC_ne h1, pu_ne h0, pu_ne h0]
  · rw [pC_ne (by omega), pC_ne (by omega), pC_ne (by omega), pu_nk j6, pu_nk j1]
  · rw [pC_ne ha]
  · rw [pC_ne (by omega), pC_ne (by omega), pC_ne (by omega), pu_nk (by omega), pu_eq]
  · rw [pC_ne (by omega), pC_ne (by omega), pC_ne (by omega), pu_eq]
  · rw [pC_ne (by omega), pC_ne (by omega), pC_in (by omega), pu_ne (by omega), pu_ne (by omega)]
    congr 1
    omega
  · rw [pC_ne (by omega), pC_in (by omega), pC_ne (by omega), pu_ne (by omega), pu_ne (by omega)]
    congr 1
    omega
  · rw [pC_in (by omega), pC_ne (by omega), pC_ne (by omega), pu_ne (by omega), pu_ne (by omega)]
    congr 1
    omega
  · rw [pC_in (by omega)]
    congr 1
    omega
/-- over the same standing part: the same land -/
theorem bK_stands (K : bK q g I L A T sM) (G' : GS q g') (hg' : 66 ≤ g') (hd : g + 13 < g' ∨ g' + 13 < g) {B : ld_t} (S : glS I L g' B) (hB : ∀ f i, stF f i → lA A f i = lA B f i) (hP : lP A = lP B) : ∃ I' L', fX1_standsAs g' (some g) (hw q I L) = some (some g', hw q I' L') ∧ frG g' I I' ∧ frH g' L L' ∧ bK q g' I' L' A T sM := by
  obtain ⟨X, G, R, hT, hsM, hW, h24, hg⟩ := K
  have h6 := hW.1.2.2.1
  obtain ⟨I', L', e1, f1, f2, f3, f4, f5, f6, f7⟩ := bE_stands (I := I) (L := L) G G' hd
  have fr : frG g' I I' := fun a ha => f1 a (by omega) (by omega) (by omega) (by omega)
  have frh : frH g' L L' := fun a ha => f3 a (by omega)
  refine ⟨I', L', e1, fr, frh, X, G', glR_SD (glS_cong S f2 (fun a ha => f1 a (by omega) (by omega) (by omega) (by omega)) (f3 _ (by omega)) hB hP) ⟨?_, ?_, fun p hp => ?_, fun who hq w hw_ => ?_⟩, ?_, ?_, hW, h24, hg'⟩
  · rw [f4]; exact R.f1
  · rw [f5]; exact R.f6
  · have z := f6 p (by omega)
    rw [z.1, z.2.1, z.2.2]
    exact ⟨R.p1 hp, R.p4 hp, R.p5 hp⟩
  · rw [f7 _ (by omega)]; exact R.hd hq w hw_
  · rw [frh 65 (by omega)]; exact hT
  · rw [fr 64 (by omega)]; exact hsM
theorem bE_copies (G : GS q g) (G' : GS q g') (hd : g + 13 < g' ∨ g' + 13 < g) (R : glR I L g A) (hW : lW A) : ∃ I' L', fX1_copies g' (some g) (hw q I L) = some (some g', hw q I' L') ∧ frG g' I I' ∧ frH g' L L' ∧ glR I' L' g' A := by
  obtain ⟨l1, l2, l3, l4, l5, l6, l7, l8, l9, l10, l11, l12, l13⟩ := glg_1
  have cI := fun (j k : Nat) (hj : 1 ≤ j ∧ j < 14 ∧ gtg j = 20) (hk : k ≤ glg j) (hl : glg j < 2 ^ 31) (J : iF) => ag_I (I := J) (L := L) (i := j) (j := j) (sp := 0) (dp := 0) (k := k) G G' hj hj (by omega) (by omega) hl hl
  have cI' := fun (j k : Nat) (hj : 1 ≤ j ∧ j < 14 ∧ gtg j = 20) (hk : k ≤ glg j) (hl : glg j < 2 ^ 31) (J : iF) (M : lF_) => ag_I (I := J) (L := M) (i := j) (j := j) (sp := 0) (dp := 0) (k := k) G G' hj hj (by omega) (by omega) hl hl
  have c12 := fun (J : iF) => ag_L (I := J) (L := L) (i := 12) (j := 12) (sp := 0) (dp := 0) (k := 560) G G' (by decide) (by decide) (by omega) (by omega) (by omega) (by omega)
  generalize hJ0 : ph_u (ph_u (ph_u (ph_u (ph_u (ph_u (ph_u I g' 0 (I g 0)) g' 2 (I g 2)) g' 3 (I g 3)) g' 4 (I g 4)) g' 5 (I g 5)) g' 7 (I g 7)) g' 8 (I g 8) = J0
  have k0 : ∀ a, a ≠ g' → J0 a = I a := fun a ha => by rw [← hJ0]; simp only [pu_ne ha]
  have k1 : J0 g' 0 = I g 0 ∧ J0 g' 2 = I g 2 ∧ J0 g' 3 = I g 3 ∧ J0 g' 4 = I g 4 ∧ J0 g' 5 = I g 5 ∧ J0 g' 7 = I g 7 ∧ J0 g' 8 = I g 8 := by
    rw [← hJ0]
    simp [pu_at]
  generalize hJ1 : ph_c (ph_c (ph_c (ph_c (ph_c (ph_c (ph_c J0 (g + 2) (g' + 2) 0 0 6) (g + 3) (g' + 3) 0 0 6) (g + 6) (g' + 6) 0 0 6) (g + 7) (g' + 7) 0 0 36) (g + 8) (g' + 8) 0 0 8) (g + 9) (g' + 9) 0 0 8) (g + 10) (g' + 10) 0 0 20 = J1
  generalize hJ2 : ph_c J1 (g + 13) (g' + 13) 0 0 400 = J2
  have m0 : ∀ a, (a < g' ∨ a = g' ∨ g' + 13 < a) → J2 a = J0 a := fun a ha => by
    rw [← hJ2, ← hJ1, pC_ne (by omega), pC_ne (by omega), pC_ne (by omega), pC_ne (by omega), pC_ne (by omega), pC_ne (by omega), pC_ne (by omega), pC_ne (by omega)]
  have m1 : ∀ j, (j = 2 ∨ j = 3 ∨ (6 ≤ j ∧ j ≤ 10) ∨ j = 13) → ∀ i, i < glg j → J2 (g' + j) i = I (g + j) i := by
    intro j hj i hi
    rw [← hJ2, ← hJ1]
    have : j = 2 ∨ j = 3 ∨ j = 6 ∨ j = 7 ∨ j = 8 ∨ j = 9 ∨ j = 10 ∨ j = 13 := by omega
    rcases this with rfl | rfl | rfl | rfl | rfl | rfl | rfl | rfl <;> simp (disch := omega) only [pC_ne, pC_in, Nat.zero_add, Nat.sub_zero, k0]
  obtain ⟨I', L', e1, f1, f2, f3, f4, f5, f6, f7⟩ := bE_stands (I := J2) (L := ph_c L (g + 12) (g' + 12) 0 0 560) G G' hd
  have fr : frG g' I I' := fun a ha => by rw [f1 a (by omega) (by omega) (by omega) (by omega), m0 a (by omega), k0 a (by omega)]
  have frh : frH g' L L' := fun a ha => by rw [f3 a (by omega), pC_ne (by omega)]
  refine ⟨I', L', ?_, fr, frh, glR_copy hW R (fun j hj => ?_) (fun j h1 h2 h3 h4 i hi => ?_) (fun i hi => ?_) (fun i hi => ?_)⟩
  · simp (disch := first | omega | decide) only [fX1_copies, nL, nI_add, nJ_mul, nJ_div, nJ_mod, nI_leI, nI_ltI, nI_eq, Option.bind_some, Option.bind_none, Nat.one_ne_zero, Nat.zero_ne_one, Nat.zero_add, Nat.add_zero, if_true, if_false, not_true_eq_false, not_false_eq_true, gg_I G, sg_I G', pu_ne, hJ0, gg10 G, gg11 G, gg14 G, gg15 G, gg16 G, gg17 G, gg18 G, gg20 G, gg21 G, gg10 G', gg11 G', gg14 G', gg15 G', gg16 G', gg17 G', gg18 G', gg20 G', gg21 G', cI 2 6 (by decide) (by omega) (by omega), cI 3 6 (by decide) (by omega) (by omega), cI 6 6 (by decide) (by omega) (by omega), cI 7 36 (by decide) (by omega) (by omega), cI 8 8 (by decide) (by omega) (by omega), cI 9 8 (by decide) (by omega) (by omega), cI 10 20 (by decide) (by omega) (by omega), hJ1, c12, cI' 13 400 (by decide) (by omega) (by omega), hJ2, dg G', e1]
  · by_cases j1 : j = 1
    · subst j1; rw [f4, m0 g (by omega), k0 g (by omega)]
    · by_cases j6 : j = 6
      · subst j6; rw [f5, m0 g (by omega), k0 g (by omega)]
      · rw [f2 j j1 j6, m0 g' (by omega)]
        have : j = 0 ∨ j = 2 ∨ j = 3 ∨ j = 4 ∨ j = 5 ∨ j = 7 ∨ j = 8 := by omega
        obtain ⟨a0, a2, a3, a4, a5, a7, a8⟩ := k1
        rcases this with rfl | rfl | rfl | rfl | rfl | rfl | rfl
        · exact a0
        · exact a2
        · exact a3
        · exact a4
        · exact a5
        · exact a7
        · exact a8
  · have e : ∀ c, J2 (g + c) = I (g + c) ∨ 14 ≤ c := fun c => by
      by_cases hc : c < 14
      · left; rw [m0 _ (by omega), k0 _ (by omega)]
      · right; omega
    by_cases q1 : j = 1
    · subst q1
      rw [(f6 i (by omega)).1, m0 _ (by omega), k0 _ (by omega)]
    by_cases q4 : j = 4
    · subst q4
      rw [(f6 i (by omega)).2.1, m0 _ (by omega), k0 _ (by omega)]
    by_cases q5 : j = 5
    · subst q5
      rw [(f6 i (by omega)).2.2, m0 _ (by omega), k0 _ (by omega)]
    · rw [f1 _ (by omega) (by omega) (by omega) (by omega)]
      exact m1 j (by omega) i hi
  · rw [f7 i hi, pC_ne (by omega)]
  · rw [f3 _ (by omega), pC_in (by omega), Nat.zero_add, Nat.sub_zero]
theorem bK_copies (K : bK q g I L A T sM) (G' : GS q g') (hg' : 66 ≤ g') (hd : g + 13 < g' ∨ g' + 13 < g) : ∃ I' L', fX1_copies g' (some g) (hw q I L) = some (some g', hw q I' L') ∧ frG g' I I' ∧ frH g' L L' ∧ bK q g' I' L' A T sM := by
  obtain ⟨X, G, R, hT, hsM, hW, h24, hg⟩ := K
  obtain ⟨I', L', e1, e2, e3, e4⟩ := bE_copies G G' hd R hW
  refine ⟨I', L', e1, e2, e3, X, G', e4, ?_, ?_, hW, h24, hg'⟩
  · rw [e3 65 (by omega)]; exact hT
  · rw [e2 64 (by omega)]; exact hsM
/-- a land is kept where another Gorge is written -/
theorem bK.off {I' : iF} {L' : lF_} (K : bK q g I L A T sM) (hg' : 66 ≤ g') (hd : g + 13 < g' ∨ g' + 13 < g) (h : frG g' I I') (h' : frH g' L L') : bK q g I' L' A T sM := by
  obtain ⟨X, G, R, hT, hsM, hW, h24, hg⟩ := K
  refine ⟨X, G, glR_copy hW R (fun j _ => by rw [h g (by omega)]) (fun j h1 h2 _ _ i _ => by rw [h _ (by omega)]) (fun i _ => by rw [h' _ (by omega)]) (fun i _ => by rw [h' _ (by omega)]), ?_, ?_, hW, h24, hg⟩
  · rw [h' 65 (by omega)]; exact hT
  · rw [h 64 (by omega)]; exact hsM
end BCP
