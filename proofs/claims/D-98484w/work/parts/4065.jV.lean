/-! P2 JV: the heap grows; images kept -/
theorem mio_le : ∀ f, f < 16 → mio f + mlg (136 + f) ≤ 1000 := by decide
theorem mlI_row {I I' : iF} {k : Nat} {B : ld_t} (W : lW B) (h : ∀ j, 1760 * k ≤ j → j < 1760 * k + 1760 → I' 188 j = I 188 j) (R : mlR (mlI I k) B) : mlR (mlI I' k) B := by
  refine mlR_to W R ?_ (fun f i h1 h2 hi => ?_) (fun i hi => ?_)
  · show I' 188 (1760 * k) = I 188 (1760 * k)
    exact h _ (by omega) (by omega)
  · have := mio_le f (by omega)
    unfold mlI
    rw [if_neg (by omega), if_neg (by omega)]
    exact h _ (by omega) (by omega)
  · show I' 188 (1760 * k + mio 57 + i) = I 188 (1760 * k + mio 57 + i)
    have : mio 57 = 168 := by decide
    rw [this]
    exact h _ (by omega) (by omega)
/-- the heap has grown: cells told of stand, but for TruthBridge's land, its images and its rules -/
def qX (q q' : ph_t) : Prop := (∀ b, b < ph_z q → ph_T q' b = ph_T q b ∧ ph_N q' b = ph_N q b) ∧ (∀ b j, b < ph_z q → b ≠ 135 → b ≠ 127 → ¬ (b = 64 ∧ j = 2) → ph_R q' b j = ph_R q b j) ∧ ph_z q ≤ ph_z q'
theorem qX.rf {q : ph_t} : qX q q := ⟨fun _ _ => ⟨rfl, rfl⟩, fun _ _ _ _ _ _ => rfl, Nat.le_refl _⟩
theorem qX.tr {q q' q'' : ph_t} (h : qX q q') (h' : qX q' q'') : qX q q'' := by
  obtain ⟨a1, a2, a3⟩ := h
  obtain ⟨b1, b2, b3⟩ := h'
  exact ⟨fun b hb => ⟨(b1 b (by omega)).1.trans (a1 b hb).1, (b1 b (by omega)).2.trans (a1 b hb).2⟩, fun b j hb h1 h2 h3 => (b2 b j (by omega) h1 h2 h3).trans (a2 b j hb h1 h2 h3), by omega⟩
theorem MS.X {q q' : ph_t} (M : MS q) (h : qX q q') (hz : 190 ≤ ph_z q) : MS q' := by
  obtain ⟨m1, m2, m3⟩ := M
  refine ⟨by rw [(h.1 136 (by omega)).1]; exact m1, fun a a1 a2 => by rw [(h.1 a (by omega)).1, (h.1 a (by omega)).2]; exact m2 a a1 a2, fun p hp => ?_⟩
  rw [h.2.1 136 p.1 (by omega) (by decide) (by decide) (by omega)]
  exact m3 p hp
theorem GS.X {q q' : ph_t} {g : Nat} (G : GS q g) (h : qX q q') (hz : g + 13 < ph_z q) (h1 : g ≠ 135) (h2 : g ≠ 127) (h3 : g ≠ 64) : GS q' g := by
  obtain ⟨g1, g2⟩ := G
  refine ⟨fun j hj => ⟨by rw [(h.1 _ (by omega)).1]; exact (g1 j hj).1, fun h1 => by rw [(h.1 _ (by omega)).2]; exact (g1 j hj).2 h1⟩, fun j j1 j2 => ?_⟩
  rw [h.2.1 g _ (by omega) h1 h2 (by omega)]
  exact g2 j j1 j2
theorem xtl_lt : ∀ p ∈ xtl, p.1 < 190 := by decide
theorem xfd_2 : ∀ p ∈ xfd, p.1 ≠ 2 := by decide
theorem XS.X {q q' : ph_t} (X : XS q) (h : qX q q') (hz : 190 ≤ ph_z q) : XS q' := by
  obtain ⟨x1, x2, x3, x4, x5, x6, x7, x8⟩ := X
  refine ⟨by rw [(h.1 64 (by omega)).1]; exact x1, by rw [(h.1 122 (by omega)).1]; exact x2, fun p hp => ?_, fun p hp => ?_, x5.X h (by omega) (by decide) (by decide) (by decide), x6.X h (by omega) (by decide) (by decide) (by decide), x7.X h (by omega) (by decide) (by decide) (by decide), x8.X h (by omega) (by decide) (by decide) (by decide)⟩
  · have := xtl_lt p hp
    rw [(h.1 p.1 (by omega)).1, (h.1 p.1 (by omega)).2]
    exact x3 p hp
  · have := xfd_2 p hp
    rw [h.2.1 64 p.1 (by omega) (by decide) (by decide) (by omega)]
    exact x4 p hp
theorem jK.X {q q' : ph_t} {I : iF} {L : lF_} {A : ld_t} {T : Nat → Nat → Bool} {sM : Nat} (J : jK q I L A T sM) (h : qX q q') (hz : 190 ≤ ph_z q) (h2 : ph_R q' 64 2 = ph_R q 64 2) : jK q' I L A T sM := by
  obtain ⟨⟨M, K⟩, ⟨X, b1, b2, b3, b4, b5, b6⟩, V⟩ := J
  exact ⟨⟨M.X h hz, K⟩, ⟨X.X h hz, b1, b2, b3, b4, b5, by rw [h2]; exact b6⟩, V⟩
/-- one image, in both -/
def imR (q : ph_t) (I : iF) (L : lF_) (sM k z : Nat) (B : ld_t) : Prop := ph_R q 135 k = some z ∧ 190 ≤ z ∧ z + 14 < ph_z q ∧ ph_T q z = 5 ∧ ph_R q z 0 = some (z + 1) ∧ GS q (z + 1) ∧ lW B ∧ lW2 B ∧ trOK B sM ∧ mlR (mlI I k) B ∧ I z 2 = nI (lA B 1 8) ∧ ((I z 1 = nI 1 ∧ glR I L (z + 1) B ∧ 0 < lA B 1 0) ∨ (I z 1 = nI 0 ∧ lBl B))
def jIm (q : ph_t) (I : iF) (L : lF_) (sM : Nat) : Prop := (∀ k, k < 4 → (I 189 k = nI 0 ∧ ph_R q 135 k = none) ∨ (I 189 k = nI 1 ∧ ∃ z B, imR q I L sM k z B)) ∧ ∀ k k' z z', k < 4 → k' < 4 → k ≠ k' → ph_R q 135 k = some z → ph_R q 135 k' = some z' → z + 14 < z' ∨ z' + 14 < z
theorem imR.keep {q q' : ph_t} {I I' : iF} {L L' : lF_} {sM sM' k z : Nat} {B : ld_t} (R : imR q I L sM k z B) (h : qX q q') (hR : ph_R q' 135 k = ph_R q 135 k) (hs : sM ≤ sM') (hI : ∀ a, z ≤ a → a ≤ z + 14 → I' a = I a) (hL : ∀ a, z ≤ a → a ≤ z + 14 → L' a = L a) (h188 : ∀ j, 1760 * k ≤ j → j < 1760 * k + 1760 → I' 188 j = I 188 j) : imR q' I' L' sM' k z B := by
  obtain ⟨r1, r2, r3, r4, r5, r6, r7, r8, r9, r10, r11, r12⟩ := R
  have hz := h.2.2
  refine ⟨by rw [hR]; exact r1, r2, by omega, by rw [(h.1 z (by omega)).1]; exact r4, by rw [h.2.1 z 0 (by omega) (by omega) (by omega) (by omega)]; exact r5, r6.X h (by omega) (by omega) (by omega) (by omega), r7, r8, fun t ht => ⟨by have := (r9 t ht).1; omega, (r9 t ht).2⟩, mlI_row r7 h188 r10, by rw [hI z (by omega) (by omega)]; exact r11, ?_⟩
  rcases r12 with ⟨c1, c2, c3⟩ | ⟨c1, c2⟩
  · exact Or.inl ⟨by rw [hI z (by omega) (by omega)]; exact c1, glR_keep r7 c2 (fun a a1 a2 => hI a (by omega) (by omega)) (fun a a1 a2 => hL a (by omega) (by omega)), c3⟩
  · exact Or.inr ⟨by rw [hI z (by omega) (by omega)]; exact c1, c2⟩
section JVV
variable {q : ph_t} {I : iF} {L : lF_} {A : ld_t} {T : Nat → Nat → Bool} {sM : Nat}
theorem x135 {q : ph_t} {I : iF} {L : lF_} (X : XS q) {k : Nat} (hk : k < 4) : xR (hw q I L) (some 135) 26 (nI k) = some (ph_R q 135 k) := by
  have h := nJ_pin (n := k) (N := 4) hk (by decide)
  have hx := X.A (a := 135) (t := 26) (n := 4) (by decide)
  simp only [xR, Option.bind_some]
  rw [if_pos ⟨hx.1, h.1, by rw [show ph_N (hw q I L) 135 = 4 from hx.2]; exact h.2⟩, nI_clamp (by omega)]
  rfl
theorem y135 {q : ph_t} {I : iF} {L : lF_} (X : XS q) {k z : Nat} (hk : k < 4) (hz : ph_T q z = 5) : yR (hw q I L) (some 135) 26 (nI k) (some z) 5 = some (hw (ph_wR q 135 k (some z)) I L) := by
  have h := nJ_pin (n := k) (N := 4) hk (by decide)
  have hx := X.A (a := 135) (t := 26) (n := 4) (by decide)
  simp only [yR, Option.bind_some]
  rw [if_pos ⟨⟨hx.1, h.1, by rw [show ph_N (hw q I L) 135 = 4 from hx.2]; exact h.2⟩, Or.inl hz⟩, nI_clamp (by omega)]
  rfl
/-- an image is laid in its place -/
theorem bK_image36 (B : bL q I L A T sM) {k z : Nat} (hk : k < 4) (hz : ph_R q 135 k = some z) (h190 : 190 ≤ z) (h5 : ph_T q z = 5) (h0 : ph_R q z 0 = some (z + 1)) (G' : GS q (z + 1)) : ∃ I' L', fX0_image_L36 64 (nI k) (hw q I L) = some (nI (lA A 1 6), hw q I' L') ∧ (∀ a, (a < z ∨ z + 14 < a) → I' a = I a ∧ L' a = L a) ∧ I' z 2 = nI (lA A 1 8) ∧ ((I' z 1 = nI 1 ∧ glR I' L' (z + 1) A ∧ 0 < lA A 1 0) ∨ (I' z 1 = nI 0 ∧ lBl A)) := by
  have X := B.1
  have W := B.2.2.2.2.1
  have h7 := B.2.2.2.1
  have e1 := fun (J : iF) => x135 (I := J) (L := L) X hk
  rw [hz] at e1
  have s1 : ∀ (J : iF) (v : Int32), v = 0 ∨ v = 1 → sZ (hw q J L) (some z) 5 1 v = some (hw q (ph_u J z 1 v) L) := fun J v hv => by exact if_pos ⟨h5, hv⟩
  have s2 : ∀ (J : iF) (v : Int32), sI (hw q J L) (some z) 5 2 v = some (hw q (ph_u J z 2 v) L) := fun J v => by exact if_pos h5
  have s0 : ∀ (J : iF), gR (hw q J L) (some z) 5 0 = some (some (z + 1)) := fun J => by
    refine (if_pos h5).trans ?_
    exact congrArg some h0
  have e7 : ∀ v, ph_u I z 1 v 64 7 = nI (lA A 1 8) := fun v => by rw [pu_ne (by omega)]; exact h7
  rcases B.2.2.2.2.2.2 with ⟨hl, h2, h3⟩ | ⟨hn, h2⟩
  · obtain ⟨K, -⟩ := B.K h3
    have K1 : bK q 66 (ph_u (ph_u I z 1 (nI 1)) z 2 (nI (lA A 1 8))) L A T sM := by
      obtain ⟨X, G, R, hT, hsM, W, h24, hg⟩ := K
      exact ⟨X, G, glR_keep W R (fun a a1 a2 => by rw [pu_ne (by omega), pu_ne (by omega)]) (fun _ _ _ => rfl), hT, by rw [pu_ne (by omega), pu_ne (by omega)]; exact hsM, W, h24, hg⟩
    obtain ⟨I', L', a1, a2, a3, a4⟩ := bK_copies (L := L) K1 G' (by omega) (by omega)
    have G := K.2.1
    have t := s1 I (nI 1) (Or.inr rfl)
    have r6 : I' 66 6 = nI (lA A 1 6) := by rw [a2 66 (by omega)]; exact K1.2.2.1.f6
    refine ⟨I', L', ?_, fun a ha => ⟨by rw [a2 a (by omega), pu_ne (by omega), pu_ne (by omega)], a3 a (by omega)⟩, by rw [a2 z (by omega), pu_eq], Or.inl ⟨by rw [a2 z (by omega), pu_nk (by decide), pu_eq], a4.2.2.1, h3⟩⟩
    simp (disch := omega) only [fX0_image_L36, fX0_image_L56, nL, nI_add, nJ_mul, nJ_div, nJ_mod, nI_leI, nI_ltI, nI_eq, Option.bind_some, Option.bind_none, Nat.one_ne_zero, Nat.zero_ne_one, Nat.zero_add, Nat.add_zero, if_true, if_false, not_true_eq_false, not_false_eq_true, gx29 X, e1, gx2 X hl, nq_66, t, gx_I X, e7, s2, s0, dg G', a1, gl_I G, r6]
  · have t := s1 I (nI 0) (Or.inl rfl)
    have d0 : lA A 1 6 = 0 := h2.1 6 (by decide)
    refine ⟨ph_u (ph_u I z 1 (nI 0)) z 2 (nI (lA A 1 8)), L, ?_, fun a ha => ⟨by rw [pu_ne (by omega), pu_ne (by omega)], rfl⟩, by rw [pu_eq], Or.inr ⟨by rw [pu_nk (by decide), pu_eq], h2⟩⟩
    rw [d0]
    simp (disch := omega) only [fX0_image_L36, fX0_image_L56, nL, nI_add, nJ_mul, nJ_div, nJ_mod, nI_leI, nI_ltI, nI_eq, Option.bind_some, Option.bind_none, Nat.one_ne_zero, Nat.zero_ne_one, Nat.zero_add, Nat.add_zero, if_true, if_false, not_true_eq_false, not_false_eq_true, gx29 X, e1, gx2n X hn, nq_0, t, gx_I X, e7, s2]
end JVV
