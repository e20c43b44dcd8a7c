/-! P2 JN3: TruthBridge's search of plans -/
theorem fo_tail {α : Type} {f : Nat → α → α} {a : α} {m : Nat} : ∀ n, m ≤ n → (∀ i x, m ≤ i → i < n → f i x = x) → fo_ f a n = fo_ f a m
  | 0, h, _ => by
    have : m = 0 := by omega
    rw [this]
  | n + 1, h, hf => by
    by_cases c : m = n + 1
    · rw [c]
    · show f n (fo_ f a n) = _
      rw [hf n _ (by omega) (by omega), fo_tail n (by omega) (fun i x h1 h2 => hf i x h1 (by omega))]
theorem fo_0 {α : Type} {f : Nat → α → α} {a : α} {n : Nat} (h : ∀ i x, i < n → f i x = x) : fo_ f a n = a := fo_tail n (Nat.zero_le n) (fun i x _ hi => h i x hi)
theorem usd_up {P : Nat → Nat} {e i s k : Nat} (hs : s < 8) : usd (upN P e (8 * i + s)) (e + 1) k = (usd P e k || decide (i = k)) := by
  apply Bool.eq_iff_iff.mpr
  unfold usd
  rw [Bool.or_eq_true, anyB_iff, anyB_iff, decide_eq_true_iff]
  constructor
  · rintro ⟨j, hj, h⟩
    have h := of_decide_eq_true h
    unfold upN at h
    by_cases c : j = e
    · rw [if_pos c] at h
      exact Or.inr (by omega)
    · rw [if_neg c] at h
      exact Or.inl ⟨j, by omega, decide_eq_true h⟩
  · rintro (⟨j, hj, h⟩ | h)
    · have h := of_decide_eq_true h
      refine ⟨j, by omega, decide_eq_true ?_⟩
      unfold upN
      rw [if_neg (by omega)]
      exact h
    · refine ⟨e, by omega, decide_eq_true ?_⟩
      unfold upN
      rw [if_pos rfl]
      omega
theorem pl_full {A : ld_t} {T : Nat → Nat → Bool} {sM : Nat} {gs : Nat → Nat} {gm : Nat} {b : plb_t} (hb : b.1 = gm) : ∀ (d e : Nat) (P : Nat → Nat) (H : Nat → Bool), e + d = gm → pl A T sM gs gm d e P H b = b
  | 0, _, _, _, _ => rfl
  | d + 1, e, P, H, he => by
    show fo_ _ b gm = b
    refine fo_ind (P := fun x => x = b) rfl gm (fun i x _ hx => ?_)
    refine fo_ind (P := fun x => x = b) hx 8 (fun s y _ hy => ?_)
    rw [hy]
    by_cases c : s < sM ∧ usd P e i = false ∧ a_gets (lHs A 6 H) T (gs i) s = true
    · rw [plS_1 c]
      unfold plU
      rw [if_neg (by omega)]
      exact pl_full hb d (e + 1) _ _ (by omega)
    · rw [plS_0 c]
section JN3
variable {q : ph_t} {I : iF} {L : lF_} {A : ld_t} {T : Nat → Nat → Bool} {sM : Nat} {gs : Nat → Nat} {gm : Nat}
def xPl (I : iF) (gs : Nat → Nat) (gm : Nat) (b : plb_t) : Prop := I 64 18 = nI gm ∧ (∀ k, k < gm → I 129 k = nI (gs k)) ∧ I 64 22 = nI b.1 ∧ (∀ k, k < b.1 → I 131 (2 * k) = nI (gs (b.2 k / 8)) ∧ I 131 (2 * k + 1) = nI (b.2 k % 8)) ∧ b.1 ≤ gm
def xPt (I : iF) (gs : Nat → Nat) (e : Nat) (P : Nat → Nat) : Prop := ∀ k, k < e → I 130 (2 * k) = nI (gs (P k / 8)) ∧ I 130 (2 * k + 1) = nI (P k % 8)
def xPf (I I' : iF) (e : Nat) : Prop := (∀ a, a ≠ 64 → a ≠ 130 → a ≠ 131 → I' a = I a) ∧ (∀ j, j ≠ 22 → I' 64 j = I 64 j) ∧ ∀ j, j < 2 * e → I' 130 j = I 130 j
def xPg (L L' : lF_) (e : Nat) : Prop := (∀ a, a ≠ 91 → a ≠ 132 → L' a = L a) ∧ ∀ j, j < 4 * e → L' 132 j = L 132 j
theorem xPf.rf {I : iF} {e : Nat} : xPf I I e := ⟨fun _ _ _ _ => rfl, fun _ _ => rfl, fun _ _ => rfl⟩
theorem xPg.rf {L : lF_} {e : Nat} : xPg L L e := ⟨fun _ _ _ => rfl, fun _ _ => rfl⟩
theorem xPf.tr {I I' I'' : iF} {e : Nat} (h : xPf I I' e) (h' : xPf I' I'' e) : xPf I I'' e := ⟨fun a h1 h2 h3 => (h'.1 a h1 h2 h3).trans (h.1 a h1 h2 h3), fun j hj => (h'.2.1 j hj).trans (h.2.1 j hj), fun j hj => (h'.2.2 j hj).trans (h.2.2 j hj)⟩
theorem xPg.tr {L L' L'' : lF_} {e : Nat} (h : xPg L L' e) (h' : xPg L' L'' e) : xPg L L'' e := ⟨fun a h1 h2 => (h'.1 a h1 h2).trans (h.1 a h1 h2), fun j hj => (h'.2 j hj).trans (h.2 j hj)⟩
theorem xPf.lo {I I' : iF} {e : Nat} (h : xPf I I' (e + 1)) : xPf I I' e := ⟨h.1, h.2.1, fun j hj => h.2.2 j (by omega)⟩
theorem xPg.lo {L L' : lF_} {e : Nat} (h : xPg L L' (e + 1)) : xPg L L' e := ⟨h.1, fun j hj => h.2 j (by omega)⟩
theorem bK.pf {B : ld_t} {I' : iF} {e : Nat} (K : bK q 80 I L B T sM) (h : xPf I I' e) : bK q 80 I' L B T sM := by
  obtain ⟨X, G, R, hT, hsM, W, h24, hg⟩ := K
  exact ⟨X, G, glR_keep W R (fun a h1 h2 => h.1 a (by omega) (by omega) (by omega)) (fun _ _ _ => rfl), hT, by rw [h.2.1 1 (by decide)]; exact hsM, W, h24, hg⟩
theorem xPl.pf {I' : iF} {e : Nat} {b : plb_t} (Y : xPl I gs gm b) (h : xPf I I' e) (h22 : I' 64 22 = I 64 22) (h131 : I' 131 = I 131) : xPl I' gs gm b := by
  obtain ⟨y1, y2, y3, y4, y5⟩ := Y
  exact ⟨by rw [h.2.1 18 (by decide)]; exact y1, fun k hk => by rw [h.1 129 (by decide) (by decide) (by decide)]; exact y2 k hk, by rw [h22]; exact y3, fun k hk => by rw [h131]; exact y4 k hk, y5⟩
/-- one goer, one saying -/
theorem bK_pl80s {H : Nat → Bool} {b : plb_t} (K : bK q 80 I L (lHs A 6 H) T sM) (W : lW A) (Y : xPl I gs gm b) (hgs : ∀ k, k < gm → gs k < lA A 1 2) (hg : gm ≤ 4) {e i s U : Nat} {P : Nat → Nat} (he : e < gm) (hi : i < gm) (hs : s < m8_ sM) (hPt : xPt I gs e P) (h5 : rL_ (L 132) (4 * e) H) (hH : ∀ w, H w = true → w < 2 ^ lA A 1 0) (hU : U < 16 ∧ ∀ k, k < 4 → U.testBit k = usd P e k) (c2 : usd P e i = false) (rec_ : Nat → Option Nat → Int32 → Int32 → ph_t → Option (Unit × ph_t)) (rs : Nat → (Nat → Nat) → (Nat → Bool) → plb_t → plb_t)
    (ih : ∀ (P : Nat → Nat) (H : Nat → Bool) (b : plb_t) (U : Nat) (I : iF) (L : lF_), bK q 80 I L (lHs A 6 H) T sM → (∀ w, H w = true → w < 2 ^ lA A 1 0) → xPl I gs gm b → xPt I gs (e + 1) P → (U < 16 ∧ ∀ k, k < 4 → U.testBit k = usd P (e + 1) k) → ∃ I' L', rec_ 64 (some 80) (nI (e + 1)) (nI U) (hw q I L) = some ((), hw q I' L') ∧ xPl I' gs gm (rs (e + 1) P H (plU (e + 1) P b)) ∧ xPf I I' (e + 1) ∧ xPg L L' (e + 1) ∧ ∃ H', bK q 80 I' L' (lHs A 6 H') T sM) :
    ∃ I' L', fX0_plans_L80_b rec_ 64 (some 80) (nI e) (nI U) (nI i) (nI s) (hw q I L) = some (.inl (nI (s + 1), hw q I' L')) ∧ bK q 80 I' L' (lHs A 6 H) T sM ∧ xPl I' gs gm (plS A T sM gs rs e P H i s b) ∧ xPf I I' e ∧ xPg L L' (e + 1) := by
  obtain ⟨X, G, R, hT, hsM, -, h24, -⟩ := id K
  have w2 := W.1.2.2.1
  have m8 := m8_le (sM := sM)
  have emn := mn_8 h24
  have c1 : s < sM := by unfold m8_ at hs; omega
  have hgi := hgs i hi
  have y2 := Y.2.1 i hi
  have eH := bE_hasN (w := U) (f := i) (by omega) (g := hw q I L)
  rw [hU.2 i (by omega), c2] at eH
  have eC := bK_canCross (L := L) K (p := gs i) (s := s) (by rw [lHs_A]; exact hgi) c1
  have esh := nJ_shl (k := i) (by omega)
  rw [nL 1] at esh
  cases c3 : a_gets (lHs A 6 H) T (gs i) s
  · rw [plS_0 (by rw [c3]; simp)]
    exact ⟨I, L, by simp (disch := omega) only [fX0_plans_L80_b, fX0_plans_L190, nL, nI_add, nJ_mul, nJ_div, nJ_mod, nI_leI, nI_ltI, nI_eq, Option.bind_some, Option.bind_none, Nat.one_ne_zero, Nat.zero_ne_one, Nat.zero_add, Nat.add_zero, if_true, if_false, not_true_eq_false, not_false_eq_true, gx_I X, hsM, emn, show ¬ m8_ sM ≤ s by omega, eH, gx17 X, xx129 X, y2, dx X, eC, c3, Bool.false_eq_true], K, Y, xPf.rf, xPg.rf⟩
  · rw [plS_1 ⟨c1, c2, c3⟩]
    have fa : xPf I (ph_u (ph_u I 130 (2 * e) (nI (gs i))) 130 (2 * e + 1) (nI s)) e := ⟨fun a h1 h2 h3 => by rw [pu_ne h2, pu_ne h2], fun j hj => by rw [pu_ne (by decide), pu_ne (by decide)], fun j hj => by rw [pu_nk (by omega), pu_nk (by omega)]⟩
    have Ka := K.pf fa
    obtain ⟨L1, b1, b2, b3⟩ := bK_isTold (L := L) Ka (who := 6) (Or.inr rfl) c1
    rw [lHs_2, lHs_6] at b3
    have hH' : ∀ w, (H w && T s w) = true → w < 2 ^ lA A 1 0 := fun w h => hH w (by simp only [Bool.and_eq_true] at h; exact h.1)
    obtain ⟨I2, L2, d1, d2, d3, d4, H2, d5⟩ := ih (upN P e (8 * i + s)) (fun w => H w && T s w) b (U ||| 2 ^ i) _ L1 b3 hH' (Y.pf fa (by rw [pu_ne (by decide), pu_ne (by decide)]) (by rw [pu_ne (by decide), pu_ne (by decide)])) (fun k hk => by
        unfold upN
        by_cases c : k = e
        · subst c
          rw [if_pos rfl, pu_nk (by omega), pu_eq, pu_eq, show (8 * i + s) / 8 = i by omega, show (8 * i + s) % 8 = s by omega]
          exact ⟨rfl, rfl⟩
        · rw [if_neg c, fa.2.2 _ (by omega), fa.2.2 _ (by omega)]
          exact hPt k (by omega)) ⟨by
        have : 2 ^ i ≤ 2 ^ 3 := Nat.pow_le_pow_right (by decide) (by omega)
        exact Nat.or_lt_two_pow (n := 4) (by omega) (by omega), fun k hk => by
        rw [usd_up (by omega), Nat.testBit_or, hU.2 k hk, Nat.testBit_two_pow]⟩
    have s19 : ∀ (J : iF) (N : lF_), gR (hw q J N) (some 80) 1 19 = some (some 91) := fun J N => gg19 G
    have cc : ∀ (J : iF) (N : lF_), ac_L (hw q J N) (some 132) (nI (4 * e)) (some 91) (nI 24) (nI 4) = some (hw q J (ph_c N 132 91 (4 * e) 24 4)) := fun J N => aw_L (n := 16) (m := 28) (X.A (t := 21) (n := 16) (by decide)).1 (X.A (t := 21) (n := 16) (by decide)).2 (G.T (j := 11) (by decide)) (G.N (j := 11) (by decide) (by decide)) (by omega) (by omega) (by omega) (by omega)
    have hd : hdG 80 L2 (ph_c L2 132 91 (4 * e) 24 4) 6 := ⟨fun a ha => by rw [pC_ne (by omega)], fun j hj => by rw [pC_out (by omega)]⟩
    have K3 := d5.next frG.rf hd.fr (glR_hold (B := H) d5.2.2.1 hd (fun w hw_ => by
      show btl (ph_c L2 132 91 (4 * e) 24 4 91 (4 * 6 + w / 64)) (w % 64) = H w
      rw [pC_in (by omega), show 4 * e + (4 * 6 + w / 64 - 24) = 4 * e + w / 64 by omega, d4.2 _ (by omega), b2.1 132 (by decide)]
      exact h5 w hw_)) (lW_held d5.2.2.2.2.2.1 fun _ w h => hH w h)
    rw [lHs_2] at K3
    refine ⟨I2, ph_c L2 132 91 (4 * e) 24 4, ?_, K3, d2, fa.tr d3.lo, ⟨fun a h1 h2 => by rw [pC_ne h1, d4.1 a h1 h2, b2.1 a h1], fun j hj => by rw [pC_ne (by decide), d4.2 j (by omega), b2.1 132 (by decide)]⟩⟩
    simp (disch := omega) only [fX0_plans_L80_b, fX0_plans_L190, nL, nI_add, nJ_mul, nJ_div, nJ_mod, nI_leI, nI_ltI, nI_eq, Option.bind_some, Option.bind_none, Nat.one_ne_zero, Nat.zero_ne_one, Nat.zero_add, Nat.add_zero, if_true, if_false, not_true_eq_false, not_false_eq_true, gx_I X, hsM, emn, show ¬ m8_ sM ≤ s by omega, eH, gx17 X, xx129 X, y2, dx X, eC, c3, gx19 X, yx130 X, b1, esh, nJ_or, d1, gx21 X, s19, cc, Bool.false_eq_true]
/-- one goer -/
theorem bK_pl80 {H : Nat → Bool} {b : plb_t} (K : bK q 80 I L (lHs A 6 H) T sM) (W : lW A) (Y : xPl I gs gm b) (hgs : ∀ k, k < gm → gs k < lA A 1 2) (hg : gm ≤ 4) {e i U : Nat} {P : Nat → Nat} (he : e < gm) (hi : i < gm) (hPt : xPt I gs e P) (h5 : rL_ (L 132) (4 * e) H) (hH : ∀ w, H w = true → w < 2 ^ lA A 1 0) (hU : U < 16 ∧ ∀ k, k < 4 → U.testBit k = usd P e k) (rec_ : Nat → Option Nat → Int32 → Int32 → ph_t → Option (Unit × ph_t)) (rs : Nat → (Nat → Nat) → (Nat → Bool) → plb_t → plb_t)
    (ih : ∀ (P : Nat → Nat) (H : Nat → Bool) (b : plb_t) (U : Nat) (I : iF) (L : lF_), bK q 80 I L (lHs A 6 H) T sM → (∀ w, H w = true → w < 2 ^ lA A 1 0) → xPl I gs gm b → xPt I gs (e + 1) P → (U < 16 ∧ ∀ k, k < 4 → U.testBit k = usd P (e + 1) k) → ∃ I' L', rec_ 64 (some 80) (nI (e + 1)) (nI U) (hw q I L) = some ((), hw q I' L') ∧ xPl I' gs gm (rs (e + 1) P H (plU (e + 1) P b)) ∧ xPf I I' (e + 1) ∧ xPg L L' (e + 1) ∧ ∃ H', bK q 80 I' L' (lHs A 6 H') T sM) :
    ∃ I' L', fX0_plans_L80 rec_ 64 (some 80) (nI e) (nI U) (nI i) (nI 0) (hw q I L) = some (.inl (nI (i + 1), hw q I' L')) ∧ bK q 80 I' L' (lHs A 6 H) T sM ∧ xPl I' gs gm (fo_ (fun s b => plS A T sM gs rs e P H i s b) b 8) ∧ xPf I I' e ∧ xPg L L' (e + 1) := by
  obtain ⟨X, G, R, hT, hsM, -, h24, -⟩ := id K
  have m8 := m8_le (sM := sM)
  have emn := mn_8 h24
  cases c2 : usd P e i
  · rw [fo_tail (m := m8_ sM) 8 m8 (fun s x h1 h2 => plS_0 (fun z => by unfold m8_ at h1; omega))]
    have : ∃ t, fX0_plans_L80 rec_ 64 (some 80) (nI e) (nI U) (nI i) (nI 0) (hw q I L) = some t ∧ ∃ I' L', t = .inl (nI (i + 1), hw q I' L') ∧ bK q 80 I' L' (lHs A 6 H) T sM ∧ xPl I' gs gm (fo_ (fun s b => plS A T sM gs rs e P H i s b) b (m8_ sM)) ∧ xPf I I' e ∧ xPg L L' (e + 1) := by
      unfold fX0_plans_L80
      refine whl_st (α := iF × lF_) (fun s V => (nI s, hw q V.1 V.2)) (fun s V => bK q 80 V.1 V.2 (lHs A 6 H) T sM ∧ xPl V.1 gs gm (fo_ (fun s b => plS A T sM gs rs e P H i s b) b s) ∧ xPf I V.1 e ∧ xPg L V.2 (e + 1)) (m8_ sM) (a := (I, L)) rfl ⟨K, Y, xPf.rf, xPg.rf⟩ ?_ ?_
      · rintro s ⟨V, N⟩ hs ⟨f1, f2, f3, f4⟩
        dsimp only at f1 f2 f3 f4 ⊢
        obtain ⟨I', L', a1, a2, a3, a4, a5⟩ := bK_pl80s (L := N) f1 W f2 hgs hg he hi hs (P := P) (fun k hk => by rw [f3.2.2 _ (by omega), f3.2.2 _ (by omega)]; exact hPt k hk) (fun w hw_ => by
          rw [f4.2 _ (by omega)]
          exact h5 w hw_) hH hU c2 rec_ rs ih
        exact ⟨(I', L'), a1, a2, a3, f3.tr a4, f4.tr a5⟩
      · rintro ⟨V, N⟩ ⟨f1, f2, f3, f4⟩
        dsimp only at f1 f2 f3 f4 ⊢
        have hs1 := f1.2.2.2.2.1
        exact ⟨_, by simp (disch := omega) only [fX0_plans_L80_b, fX0_plans_L196, nL, nI_add, nJ_mul, nJ_div, nJ_mod, nI_leI, nI_ltI, nI_eq, Option.bind_some, Option.bind_none, Nat.one_ne_zero, Nat.zero_ne_one, Nat.zero_add, Nat.add_zero, if_true, if_false, not_true_eq_false, not_false_eq_true, gx_I X, hs1, emn, Nat.le_refl, xr_s] <;> rfl, V, N, rfl, f1, f2, f3, f4⟩
    obtain ⟨t, a1, I', L', rfl, a2⟩ := this
    exact ⟨I', L', a1, a2⟩
  · rw [fo_0 (fun s x _ => plS_0 (fun z => by rw [c2] at z; cases z.2.1))]
    refine ⟨I, L, ?_, K, Y, xPf.rf, xPg.rf⟩
    have eH := bE_hasN (w := U) (f := i) (by omega) (g := hw q I L)
    rw [hU.2 i (by omega), c2] at eH
    unfold fX0_plans_L80
    refine whl_end ?_
    by_cases c : m8_ sM ≤ 0
    · simp (disch := omega) only [fX0_plans_L80_b, fX0_plans_L196, nL, nI_add, nJ_mul, nJ_div, nJ_mod, nI_leI, nI_ltI, nI_eq, Option.bind_some, Option.bind_none, Nat.one_ne_zero, Nat.zero_ne_one, Nat.zero_add, Nat.add_zero, if_true, if_false, not_true_eq_false, not_false_eq_true, gx_I X, hsM, emn, c, xr_s]
    · simp (disch := omega) only [fX0_plans_L80_b, fX0_plans_L196, nL, nI_add, nJ_mul, nJ_div, nJ_mod, nI_leI, nI_ltI, nI_eq, Option.bind_some, Option.bind_none, Nat.one_ne_zero, Nat.zero_ne_one, Nat.zero_add, Nat.add_zero, if_true, if_false, not_true_eq_false, not_false_eq_true, gx_I X, hsM, emn, c, eH, xr_s]
/-- one level -/
theorem bK_plB {H : Nat → Bool} {b : plb_t} (K : bK q 80 I L (lHs A 6 H) T sM) (W : lW A) (Y : xPl I gs gm b) (hgs : ∀ k, k < gm → gs k < lA A 1 2) (hg : gm ≤ 4) {e d U : Nat} {P : Nat → Nat} (he : e + d = gm) (hPt : xPt I gs e P) (hH : ∀ w, H w = true → w < 2 ^ lA A 1 0) (hU : U < 16 ∧ ∀ k, k < 4 → U.testBit k = usd P e k) (rec_ : Nat → Option Nat → Int32 → Int32 → ph_t → Option (Unit × ph_t))
    (ih : ∀ d', d = d' + 1 → ∀ (P : Nat → Nat) (H : Nat → Bool) (b : plb_t) (U : Nat) (I : iF) (L : lF_), bK q 80 I L (lHs A 6 H) T sM → (∀ w, H w = true → w < 2 ^ lA A 1 0) → xPl I gs gm b → xPt I gs (e + 1) P → (U < 16 ∧ ∀ k, k < 4 → U.testBit k = usd P (e + 1) k) → ∃ I' L', rec_ 64 (some 80) (nI (e + 1)) (nI U) (hw q I L) = some ((), hw q I' L') ∧ xPl I' gs gm (pl A T sM gs gm d' (e + 1) P H (plU (e + 1) P b)) ∧ xPf I I' (e + 1) ∧ xPg L L' (e + 1) ∧ ∃ H', bK q 80 I' L' (lHs A 6 H') T sM) :
    ∃ I' L', fX0_plans_L28 rec_ 64 (some 80) (nI e) (nI U) (hw q I L) = some ((), hw q I' L') ∧ xPl I' gs gm (pl A T sM gs gm d e P H b) ∧ xPf I I' e ∧ xPg L L' e ∧ ∃ H', bK q 80 I' L' (lHs A 6 H') T sM := by
  obtain ⟨X, G, R, hT, hsM, -, h24, -⟩ := id K
  obtain ⟨y1, y2, y3, y4, y5⟩ := id Y
  cases d with
  | zero =>
    have : e = gm := by omega
    subst this
    exact ⟨I, L, by simp (disch := omega) only [fX0_plans_L28, nL, nI_add, nJ_mul, nJ_div, nJ_mod, nI_leI, nI_ltI, nI_eq, Option.bind_some, Option.bind_none, Nat.one_ne_zero, Nat.zero_ne_one, Nat.zero_add, Nat.add_zero, if_true, if_false, not_true_eq_false, not_false_eq_true, gx_I X, y1], Y, xPf.rf, xPg.rf, H, K⟩
  | succ d =>
    by_cases c : b.1 = gm
    · rw [pl_full c (d + 1) e P H he]
      exact ⟨I, L, by simp (disch := omega) only [fX0_plans_L28, nL, nI_add, nJ_mul, nJ_div, nJ_mod, nI_leI, nI_ltI, nI_eq, Option.bind_some, Option.bind_none, Nat.one_ne_zero, Nat.zero_ne_one, Nat.zero_add, Nat.add_zero, if_true, if_false, not_true_eq_false, not_false_eq_true, gx_I X, y1, y3, c, show ¬ e = gm by omega], Y, xPf.rf, xPg.rf, H, K⟩
    · have s19 : ∀ (J : iF) (N : lF_), gR (hw q J N) (some 80) 1 19 = some (some 91) := fun J N => gg19 G
      have cc : ac_L (hw q I L) (some 91) (nI 24) (some 132) (nI (4 * e)) (nI 4) = some (hw q I (ph_c L 91 132 24 (4 * e) 4)) := aw_L (n := 28) (m := 16) (G.T (j := 11) (by decide)) (G.N (j := 11) (by decide) (by decide)) (X.A (t := 21) (n := 16) (by decide)).1 (X.A (t := 21) (n := 16) (by decide)).2 (by omega) (by omega) (by omega) (by omega)
      have K1 : bK q 80 I (ph_c L 91 132 24 (4 * e) 4) (lHs A 6 H) T sM := ⟨X, G, glR_keep K.2.2.2.2.2.1 R (fun _ _ _ => rfl) (fun a h1 h2 => by rw [pC_ne (by omega)]), by rw [pC_ne (by decide)]; exact hT, hsM, K.2.2.2.2.2.1, h24, by decide⟩
      have : ∃ t, fX0_plans_L68 rec_ 64 (some 80) (nI e) (nI U) (nI 0) (hw q I (ph_c L 91 132 24 (4 * e) 4)) = some t ∧ ∃ I' L', t = ((), hw q I' L') ∧ xPl I' gs gm (pl A T sM gs gm (d + 1) e P H b) ∧ xPf I I' e ∧ xPg L L' e ∧ ∃ H', bK q 80 I' L' (lHs A 6 H') T sM := by
        unfold fX0_plans_L68
        refine whl_st (α := iF × lF_) (fun s V => (nI s, hw q V.1 V.2)) (fun i V => bK q 80 V.1 V.2 (lHs A 6 H) T sM ∧ xPl V.1 gs gm (fo_ (fun i b => fo_ (fun s b => plS A T sM gs (pl A T sM gs gm d) e P H i s b) b 8) b i) ∧ xPf I V.1 e ∧ xPg (ph_c L 91 132 24 (4 * e) 4) V.2 (e + 1)) gm (a := (I, ph_c L 91 132 24 (4 * e) 4)) rfl ⟨K1, Y, xPf.rf, xPg.rf⟩ ?_ ?_
        · rintro i ⟨V, N⟩ hi ⟨f1, f2, f3, f4⟩
          dsimp only at f1 f2 f3 f4 ⊢
          obtain ⟨I', L', a1, a2, a3, a4, a5⟩ := bK_pl80 (L := N) f1 W f2 hgs hg (e := e) (i := i) (U := U) (by omega) hi (P := P) (fun k hk => by rw [f3.2.2 _ (by omega), f3.2.2 _ (by omega)]; exact hPt k hk) (fun w hw_ => by
            rw [f4.2 _ (by omega), pC_in (by omega), show 24 + (4 * e + w / 64 - 4 * e) = 24 + w / 64 by omega]
            have := R.hd (who := 6) (Or.inr rfl) w hw_
            rw [lHs_6] at this
            exact this) hH hU rec_ (pl A T sM gs gm d) (ih d rfl)
          have v1 := f2.1
          exact ⟨(I', L'), by simp (disch := omega) only [fX0_plans_L68_b, nL, nI_add, nJ_mul, nJ_div, nJ_mod, nI_leI, nI_ltI, nI_eq, Option.bind_some, Option.bind_none, Nat.one_ne_zero, Nat.zero_ne_one, Nat.zero_add, Nat.add_zero, if_true, if_false, not_true_eq_false, not_false_eq_true, gx_I X, v1, show ¬ gm ≤ i by omega, a1], a2, a3, f3.tr a4, f4.tr a5⟩
        · rintro ⟨V, N⟩ ⟨f1, f2, f3, f4⟩
          dsimp only at f1 f2 f3 f4 ⊢
          have v1 := f2.1
          exact ⟨_, by simp (disch := omega) only [fX0_plans_L68_b, nL, nI_add, nJ_mul, nJ_div, nJ_mod, nI_leI, nI_ltI, nI_eq, Option.bind_some, Option.bind_none, Nat.one_ne_zero, Nat.zero_ne_one, Nat.zero_add, Nat.add_zero, if_true, if_false, not_true_eq_false, not_false_eq_true, gx_I X, v1, Nat.le_refl, xr_s] <;> rfl, V, N, rfl, f2, f3, ⟨fun a h1 h2 => by rw [f4.1 a h1 h2, pC_ne h2], fun j hj => by rw [f4.2 j (by omega), pC_out (by omega)]⟩, H, f1⟩
      obtain ⟨t, a1, I', L', rfl, a2⟩ := this
      refine ⟨I', L', ?_, a2⟩
      simp (disch := omega) only [fX0_plans_L28, nL, nI_add, nJ_mul, nJ_div, nJ_mod, nI_leI, nI_ltI, nI_eq, Option.bind_some, Option.bind_none, Nat.one_ne_zero, Nat.zero_ne_one, Nat.zero_add, Nat.add_zero, if_true, if_false, not_true_eq_false, not_false_eq_true, gx_I X, y1, y3, show ¬ e = gm by omega, c, s19, gx21 X, cc, a1]
theorem bK_pl (W : lW A) (hgs : ∀ k, k < gm → gs k < lA A 1 2) (hg : gm ≤ 4) : ∀ (d e N : Nat), e + d = gm → d < N → ∀ (P : Nat → Nat) (H : Nat → Bool) (b : plb_t) (U : Nat) (I : iF) (L : lF_), bK q 80 I L (lHs A 6 H) T sM → (∀ w, H w = true → w < 2 ^ lA A 1 0) → xPl I gs gm b → xPt I gs e P → (U < 16 ∧ ∀ k, k < 4 → U.testBit k = usd P e k) → ∃ I' L', fX0_plans N 64 (some 80) (nI e) (nI U) (hw q I L) = some ((), hw q I' L') ∧ xPl I' gs gm (pl A T sM gs gm d e P H (plU e P b)) ∧ xPf I I' e ∧ xPg L L' e ∧ ∃ H', bK q 80 I' L' (lHs A 6 H') T sM
  | d, e, 0, he, hN => absurd hN (Nat.not_lt_zero d)
  | d, e, N + 1, he, hN => fun P H b U I L K hH Y hPt hU => by
    have X := K.1
    obtain ⟨y1, y2, y3, y4, y5⟩ := id Y
    have ih := fun d' (hd' : d = d' + 1) => bK_pl W hgs hg d' (e + 1) N (by omega) (by omega)
    show ∃ I' L', fX0_plans_B (fX0_plans N) 64 (some 80) (nI e) (nI U) (hw q I L) = some ((), hw q I' L') ∧ _
    by_cases c : b.1 < e
    · have cc : ac_I (hw q (ph_u I 64 22 (nI e)) L) (some 130) (nI 0) (some 131) (nI 0) (nI 8) = some (hw q (ph_c (ph_u I 64 22 (nI e)) 130 131 0 0 8) L) := aw_I (n := 8) (m := 8) (X.A (t := 20) (n := 8) (by decide)).1 (X.A (t := 20) (n := 8) (by decide)).2 (X.A (t := 20) (n := 8) (by decide)).1 (X.A (t := 20) (n := 8) (by decide)).2 (by omega) (by omega) (by omega) (by omega)
      have fa : xPf I (ph_c (ph_u I 64 22 (nI e)) 130 131 0 0 8) e := ⟨fun a h1 h2 h3 => by rw [pC_ne h3, pu_ne h1], fun j hj => by rw [pC_ne (by decide), pu_nk hj], fun j hj => by rw [pC_ne (by decide), pu_ne (by decide)]⟩
      have eU : plU e P b = (e, P) := if_pos c
      obtain ⟨I', L', a1, a2, a3, a4, a5⟩ := bK_plB (b := plU e P b) (K.pf fa) W (by
        rw [eU]
        refine ⟨by rw [fa.2.1 18 (by decide)]; exact y1, fun k hk => by rw [fa.1 129 (by decide) (by decide) (by decide)]; exact y2 k hk, by rw [pC_ne (by decide), pu_eq], fun k hk => ?_, by dsimp only; omega⟩
        dsimp only at hk ⊢
        rw [pC_in (by omega), pC_in (by omega), pu_ne (by decide)]
        have := hPt k hk
        rw [show 0 + (2 * k - 0) = 2 * k by omega, show 0 + (2 * k + 1 - 0) = 2 * k + 1 by omega]
        exact this) hgs hg he (P := P) (U := U) (fun k hk => by rw [fa.2.2 _ (by omega), fa.2.2 _ (by omega)]; exact hPt k hk) hH hU (fX0_plans N) ih
      refine ⟨I', L', ?_, a2, fa.tr a3, a4, a5⟩
      simp (disch := omega) only [fX0_plans_B, nL, nI_add, nJ_mul, nJ_div, nJ_mod, nI_leI, nI_ltI, nI_eq, Option.bind_some, Option.bind_none, Nat.one_ne_zero, Nat.zero_ne_one, Nat.zero_add, Nat.add_zero, if_true, if_false, not_true_eq_false, not_false_eq_true, gx_I X, y3, show ¬ e ≤ b.1 by omega, sx_I X, gx19 X, gx20 X, cc, a1]
    · have eU : plU e P b = b := if_neg c
      obtain ⟨I', L', a1, a2, a3, a4, a5⟩ := bK_plB (b := plU e P b) K W (by rw [eU]; exact Y) hgs hg he (P := P) (U := U) hPt hH hU (fX0_plans N) ih
      refine ⟨I', L', ?_, a2, a3, a4, a5⟩
      simp (disch := omega) only [fX0_plans_B, nL, nI_add, nJ_mul, nJ_div, nJ_mod, nI_leI, nI_ltI, nI_eq, Option.bind_some, Option.bind_none, Nat.one_ne_zero, Nat.zero_ne_one, Nat.zero_add, Nat.add_zero, if_true, if_false, not_true_eq_false, not_false_eq_true, gx_I X, y3, show e ≤ b.1 by omega, a1]
end JN3
