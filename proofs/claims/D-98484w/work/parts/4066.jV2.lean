/-! P2 JV2: both answer: image -/
theorem nq_z {T : Type} {z : Nat} {a b : Option T} (h : 64 ≤ z) : nq_ (some z) a b = b := if_pos h
/-- what image and back leave alone -/
def jFr (q : ph_t) (I I' : iF) (L L' : lF_) : Prop := (∀ a, (a < 64 ∨ a = 65 ∨ (94 ≤ a ∧ a ≤ 127) ∨ (152 ≤ a ∧ a ≤ 175) ∨ (190 ≤ a ∧ a < ph_z q ∧ 6 ≤ ph_T q a ∧ ph_T q a ≤ 19)) → I' a = I a) ∧ (∀ a, (a ≤ 65 ∨ (94 ≤ a ∧ a ≤ 127) ∨ (133 ≤ a ∧ a ≤ 175) ∨ (178 ≤ a ∧ a < 190) ∨ (190 ≤ a ∧ a < ph_z q ∧ 6 ≤ ph_T q a ∧ ph_T q a ≤ 19)) → L' a = L a) ∧ (∀ j, j ≠ 7 → j ≠ 18 → j ≠ 22 → j ≠ 25 → j ≠ 26 → j ≠ 27 → j ≠ 28 → I' 64 j = I 64 j) ∧ ∀ j, j < 54 → I' 136 j = I 136 j
theorem jFr.rf {q : ph_t} {I : iF} {L : lF_} : jFr q I I L L := ⟨fun _ _ => rfl, fun _ _ => rfl, fun _ _ _ _ _ _ _ _ => rfl, fun _ _ => rfl⟩
theorem frJ.toFr {q : ph_t} {I I' : iF} {L L' : lF_} (h : frJ I I') (h' : frJL L L') : jFr q I I' L L' := ⟨fun a ha => h.1 a (by omega), fun a ha => h' a (by omega), h.2.1, h.2.2.2⟩
/-- an image's new cells -/
def imq (q : ph_t) (k : Nat) : ph_t := ph_wR (ph_wR (gqs (ph_al (ph_al q 5 3) 1 22) (ph_z q + 1)) (ph_z q) 0 (some (ph_z q + 1))) 135 k (some (ph_z q))
theorem imq_z {q : ph_t} {k : Nat} : ph_z (imq q k) = ph_z q + 15 := rfl
theorem imq_s {q : ph_t} {k : Nat} : ph_s (imq q k) = ph_s q + 1121 := by
  show ph_s (gqs (ph_al (ph_al q 5 3) 1 22) (ph_z q + 1)) = _
  rw [gqs_s]
  show ph_s q + 3 + 22 + 1096 = _
  omega
theorem imq_T {q : ph_t} {k b : Nat} (hb : b < ph_z q + 2) : ph_T (imq q k) b = if b = ph_z q + 1 then 1 else if b = ph_z q then 5 else ph_T q b := by
  show ph_T (gqs (ph_al (ph_al q 5 3) 1 22) (ph_z q + 1)) b = _
  rw [(gqs_lo (q := ph_al (ph_al q 5 3) 1 22) (o := ph_z q + 1) (b := b) hb).1]
  rfl
theorem imq_X {q : ph_t} {k : Nat} : qX q (imq q k) := by
  refine ⟨fun b hb => ⟨?_, ?_⟩, fun b j hb h1 h2 h3 => ?_, by rw [imq_z]; omega⟩
  · rw [imq_T (by omega), if_neg (by omega), if_neg (by omega)]
  · show ph_N (gqs (ph_al (ph_al q 5 3) 1 22) (ph_z q + 1)) b = _
    rw [(gqs_lo (q := ph_al (ph_al q 5 3) 1 22) (o := ph_z q + 1) (b := b) (show b < ph_z q + 2 by omega)).2.1]
    show (if b = ph_z q + 1 then 22 else if b = ph_z q then 3 else ph_N q b) = _
    rw [if_neg (by omega), if_neg (by omega)]
  · show (if b = 135 ∧ j = k then _ else if b = ph_z q ∧ j = 0 then _ else ph_R (gqs (ph_al (ph_al q 5 3) 1 22) (ph_z q + 1)) b j) = _
    rw [if_neg (fun z => h1 z.1), if_neg (by omega), (gqs_lo (q := ph_al (ph_al q 5 3) 1 22) (o := ph_z q + 1) (b := b) (show b < ph_z q + 2 by omega)).2.2 (by omega)]
    show (if b = ph_z q + 1 then none else if b = ph_z q then none else ph_R q b j) = _
    rw [if_neg (by omega), if_neg (by omega)]
theorem imq_lo {q : ph_t} {k b j : Nat} (hb : b < ph_z q) (h : ¬ (b = 135 ∧ j = k)) : ph_R (imq q k) b j = ph_R q b j := by
  show (if b = 135 ∧ j = k then _ else if b = ph_z q ∧ j = 0 then _ else ph_R (gqs (ph_al (ph_al q 5 3) 1 22) (ph_z q + 1)) b j) = _
  rw [if_neg h, if_neg (by omega), (gqs_lo (q := ph_al (ph_al q 5 3) 1 22) (o := ph_z q + 1) (b := b) (show b < ph_z q + 2 by omega)).2.2 (by omega)]
  show (if b = ph_z q + 1 then none else if b = ph_z q then none else ph_R q b j) = _
  rw [if_neg (by omega), if_neg (by omega)]
theorem imq_G {q : ph_t} {k : Nat} (hz : 190 ≤ ph_z q) : GS (imq q k) (ph_z q + 1) := by
  obtain ⟨g1, g2⟩ := gqs_GS (q := ph_al (ph_al q 5 3) 1 22) (o := ph_z q + 1) (if_pos rfl) rfl
  refine ⟨g1, fun j h1 h2 => ?_⟩
  show (if ph_z q + 1 = 135 ∧ j + 8 = k then _ else if ph_z q + 1 = ph_z q ∧ j + 8 = 0 then _ else ph_R (gqs (ph_al (ph_al q 5 3) 1 22) (ph_z q + 1)) (ph_z q + 1) (j + 8)) = _
  rw [if_neg (by omega), if_neg (by omega)]
  exact g2 j h1 h2
section JV2
variable {q : ph_t} {I : iF} {L : lF_} {A : ld_t} {T : Nat → Nat → Bool} {sM : Nat}
theorem bL.X {q' : ph_t} (B : bL q I L A T sM) (h : qX q q') (hz : 190 ≤ ph_z q) (h2 : ph_R q' 64 2 = ph_R q 64 2) : bL q' I L A T sM := by
  obtain ⟨X, b1, b2, b3, b4, b5, b6⟩ := B
  exact ⟨X.X h hz, b1, b2, b3, b4, b5, by rw [h2]; exact b6⟩
theorem x_image_new (X : XS q) (Z : zOK q I L) (hz : 190 ≤ ph_z q) {k : Nat} (hk : k < 4) (h : ph_R q 135 k = none) : fX0_image 64 (nI k) (hw q I L) = fX0_image_L36 64 (nI k) (hw (imq q k) I L) := by
  have e1 := x135 (I := I) (L := L) X hk
  rw [h] at e1
  have x1 := fun g => xin_lit (v := nI k) (lo := 0) (hi := 3) (l := 0) (k := 3) (by decide +kernel) (by decide +kernel) g
  have c1 : inR (nI k) 0 3 = true := inR_iff.mpr (by rw [nI_toInt (by omega)]; omega)
  have z1 := Z.al 5 3
  have z2 := z1.al 1 22
  have i1 := g_init (o := ph_z q + 1) z2 (if_pos rfl) (by omega) (show ph_z q + 1 < ph_z q + 2 by omega)
  have X4 : XS (ph_wR (gqs (ph_al (ph_al q 5 3) 1 22) (ph_z q + 1)) (ph_z q) 0 (some (ph_z q + 1))) := by
    refine X.X ⟨fun b hb => (imq_X (k := 0)).1 b hb, fun b j hb h1 h2 h3 => ?_, by show ph_z q ≤ ph_z q + 15; omega⟩ hz
    have := (imq_X (k := 0)).2.1 b j hb h1 h2 h3
    rw [← this]
    show _ = (if b = 135 ∧ j = 0 then _ else _)
    rw [if_neg (fun z => h1 z.1)]
    rfl
  have y1 := y135 (I := I) (L := L) X4 hk (z := ph_z q) (by
    have := imq_T (q := q) (k := 0) (b := ph_z q) (by omega)
    rw [if_neg (by omega), if_pos rfl] at this
    exact this)
  have s1 : sR (hw (gqs (ph_al (ph_al q 5 3) 1 22) (ph_z q + 1)) I L) (some (ph_z q)) 5 0 (some (ph_z q + 1)) = some (hw (ph_wR (gqs (ph_al (ph_al q 5 3) 1 22) (ph_z q + 1)) (ph_z q) 0 (some (ph_z q + 1))) I L) := by
    have : ph_T (gqs (ph_al (ph_al q 5 3) 1 22) (ph_z q + 1)) (ph_z q) = 5 := by
      have := imq_T (q := q) (k := 0) (b := ph_z q) (by omega)
      rw [if_neg (by omega), if_pos rfl] at this
      exact this
    exact if_pos this
  have i19 : fX19_init (ph_z q) (hw (ph_al q 5 3) I L) = some ((), hw (ph_wR (gqs (ph_al (ph_al q 5 3) 1 22) (ph_z q + 1)) (ph_z q) 0 (some (ph_z q + 1))) I L) := by
    unfold fX19_init
    rw [if_pos (by omega), nw_e z1]
    show (if 64 ≤ ph_z q + 1 then _ else _) = _
    rw [if_pos (by omega)]
    show (fX1_init (ph_z q + 1) _).bind _ = _
    rw [i1, Option.bind_some]
    show (sR _ _ _ _ (some (ph_z q + 1))).bind _ = _
    rw [s1, Option.bind_some]
  unfold fX0_image
  rw [x1, c1, Option.bind_some]
  simp only [if_true, nL, nI_eq, Nat.one_ne_zero, not_false_eq_true, show (1 : Nat) < 2 ^ 31 from by decide, show (0 : Nat) < 2 ^ 31 from by decide]
  rw [gx29 X, Option.bind_some, e1, Option.bind_some, nq_0, Option.bind_some, nw_e Z, if_pos (by omega), i19, Option.bind_some]
  show (yR _ _ _ _ _ _).bind _ = _
  rw [y1, Option.bind_some]
  rfl
end JV2
