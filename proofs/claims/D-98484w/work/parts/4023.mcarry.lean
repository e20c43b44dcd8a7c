/-! P2 MCARRY: the model: images laid and taken back -/
theorem mlR_to {acc acc' : Nat → Nat → Int32} {A : ld_t} (W : lW A) (R : mlR acc A) (h0 : acc' 0 0 = acc 0 0) (h1 : ∀ f i, 1 ≤ f → f ≤ 15 → i < mlg (136 + f) → acc' f i = acc f i) (h57 : ∀ i, i < 1520 → acc' 57 i = acc 57 i) : mlR acc' A := by
  obtain ⟨⟨w0, w1, w2, w3, w4, w5, w6, w7, w8⟩, -⟩ := W
  have n1 : mlg 137 = 9 := by decide
  have n7 : mlg (136 + 7) = 6 := by decide
  have n15 : mlg (136 + 15) = 56 := by decide
  refine mlR_mk ?_ (fun j hj => ?_) (fun f g1 g2 p hp => ?_) (fun p hp => ?_) (fun f g1 g2 p hp => ?_) (fun f g1 g2 p hp => ?_) (fun f g1 g2 p hp => ?_) (fun who hq => ?_) (fun k hk => ?_)
  · rw [h0]; exact R.g0
  · rw [h1 1 j (by decide) (by decide) (by rw [n1]; exact hj)]; exact R.g1 hj
  · have n : mlg (136 + f) = 6 := by
      have : f = 2 ∨ f = 3 ∨ f = 4 ∨ f = 5 ∨ f = 6 := by omega
      rcases this with rfl | rfl | rfl | rfl | rfl <;> decide
    rw [h1 f p (by omega) (by omega) (by omega)]; exact R.g2 g1 g2 hp
  · rw [h1 7 p (by omega) (by omega) (by omega)]; exact R.g7 hp
  · have n : mlg (136 + f) = 10 := by
      have : f = 8 ∨ f = 9 ∨ f = 10 := by omega
      rcases this with rfl | rfl | rfl <;> decide
    rw [h1 f p (by omega) (by omega) (by omega)]; exact R.g8 g1 g2 hp
  · have n : mlg (136 + f) = 8 := by
      have : f = 11 ∨ f = 12 := by omega
      rcases this with rfl | rfl <;> decide
    rw [h1 f p (by omega) (by omega) (by omega)]; exact R.g11 g1 g2 hp
  · have n : mlg (136 + f) = 10 := by
      have : f = 13 ∨ f = 14 := by omega
      rcases this with rfl | rfl <;> decide
    rw [h1 f p (by omega) (by omega) (by omega)]; exact R.g13 g1 g2 hp
  · intro w hw_
    rw [h1 15 _ (by omega) (by omega) (by omega)]
    exact R.2.1 who hq w hw_
  · obtain ⟨r1, r2, r3, r4⟩ := R.2.2 k hk
    refine ⟨by rw [h57 _ (by omega)]; exact r1, by rw [h57 _ (by omega)]; exact r2, fun p hp => ?_, fun who hq w hw_ => ?_⟩
    · rw [h57 _ (by omega), h57 _ (by omega), h57 _ (by omega)]
      exact r3 p hp
    · rw [h57 _ (by omega)]
      exact r4 who hq w hw_
def mio (f : Nat) : Nat := if f = 1 then 1 else if f ≤ 7 then 10 + 6 * (f - 2) else if f ≤ 10 then 46 + 10 * (f - 8) else if f ≤ 12 then 76 + 8 * (f - 11) else if f ≤ 14 then 92 + 10 * (f - 13) else if f = 15 then 112 else 168
/-- where a land lies in an image -/
def mlI (I : iF) (k f i : Nat) : Int32 := if f = 0 then I 188 (1760 * k) else I 188 (1760 * k + mio f + i)
/-- rows carried one behind the other -/
noncomputable def carr (o : Nat) : List Nat → ph_t → Option (Unit × ph_t)
  | [], h => some ((), h)
  | f :: fs, h => (gR h (some o) 2 f).bind fun x => (dv_ h (some o) 2).bind fun a => (fX3_carryRow a x h).bind fun r => carr o fs r.2
theorem carr_eq (o : Nat) (v1 v2 : Int32) (h : ph_t) : fX3_carriesAll o v1 v2 h = ((sI h (some o) 2 75 (1760 * v1)).bind fun h1 => (sZ h1 (some o) 2 76 v2).bind fun h2 => (gR h2 (some o) 2 58).bind fun x => (gI h2 (some o) 2 59).bind fun y => (yI h2 x 20 0 y).bind fun h3 => (gR h3 (some o) 2 58).bind fun x1 => (dv_ h3 (some o) 2).bind fun a => (fX3_carryRow a x1 h3).bind fun r => (gR r.2 (some o) 2 58).bind fun x2 => (xI r.2 x2 20 0).bind fun y2 => (sI r.2 (some o) 2 59 y2).bind fun h4 => carr o [1, 2, 3, 4, 5, 6, 7, 8, 9, 10, 11, 12, 13, 14, 15, 57] h4) := rfl
def rwA (P : Nat → Nat → Nat → Prop) : Nat → List (Nat × Nat × Nat) → Prop
  | _, [] => True
  | a, p :: rs => (∀ i, i < p.2.2 → P p.2.1 i (a + i)) ∧ rwA P (a + p.2.2) rs
def rwT : List (Nat × Nat × Nat) → Nat
  | [] => 0
  | p :: rs => p.2.2 + rwT rs
theorem rwA_to {P P' : Nat → Nat → Nat → Prop} : ∀ (rs : List (Nat × Nat × Nat)) (a : Nat), (∀ b i j, (∃ p ∈ rs, p.2.1 = b) → a ≤ j → j < a + rwT rs → P b i j → P' b i j) → rwA P a rs → rwA P' a rs
  | [], _, _, _ => trivial
  | p :: rs, a, h, hr => by
    refine ⟨fun i hi => h _ _ _ ⟨p, List.mem_cons_self, rfl⟩ (by omega) ?_ (hr.1 i hi), rwA_to rs _ (fun b i j hb h1 h2 => ?_) hr.2⟩
    · show _ < a + (p.2.2 + rwT rs)
      omega
    · obtain ⟨p', m, e⟩ := hb
      refine h b i j ⟨p', List.mem_cons_of_mem _ m, e⟩ (by omega) ?_
      show _ < a + (p.2.2 + rwT rs)
      omega
section MCR
variable {q : ph_t} {I : iF} {L : lF_} {A : ld_t} {T : Nat → Nat → Bool} {sM : Nat}
theorem mE_carF (M : MS q) {b n a : Nat} (hT : ph_T q b = 20) (hN : ph_N q b = n) (hb : b ≠ 188 ∧ b ≠ 136) (h76 : I 136 76 = nI 0) (h75 : I 136 75 = nI a) (h : a + n ≤ 8800) :
    ∃ I', fX3_carryRow 136 (some b) (hw q I L) = some ((), hw q I' L) ∧ (∀ c, c ≠ 188 → c ≠ 136 → I' c = I c) ∧ (∀ j, j ≠ 75 → I' 136 j = I 136 j) ∧ I' 136 75 = nI (a + n) ∧ ∀ j, I' 188 j = if a ≤ j ∧ j < a + n then I b (j - a) else I 188 j := by
  unfold fX3_carryRow fX3_carryRow_L2
  have : ∃ t, whl (fun s : Int32 × ph_t => fX3_carryRow_L2_b 136 (some b) s.1 s.2) (0, hw q I L) = some t ∧ ∃ I', t = ((), hw q I' L) ∧ (∀ c, c ≠ 188 → c ≠ 136 → I' c = I c) ∧ (∀ j, j ≠ 75 → I' 136 j = I 136 j) ∧ I' 136 75 = nI (a + n) ∧ ∀ j, I' 188 j = if a ≤ j ∧ j < a + n then I b (j - a) else I 188 j := by
    refine whl_st (α := iF) (fun i J => (nI i, hw q J L)) (fun i J => (∀ c, c ≠ 188 → c ≠ 136 → J c = I c) ∧ (∀ j, j ≠ 75 → J 136 j = I 136 j) ∧ J 136 75 = nI (a + i) ∧ ∀ j, J 188 j = if a ≤ j ∧ j < a + i then I b (j - a) else I 188 j) n (a := I) rfl ⟨fun _ _ _ => rfl, fun _ _ => rfl, h75, fun j => by rw [if_neg (by omega)]⟩ ?_ ?_
    · rintro i J hi ⟨f1, f2, f3, f4⟩
      have eN : nA (hw q J L) (some b) = some (nI n) := nw_A (by omega) hN
      have e76 : J 136 76 = nI 0 := by rw [f2 76 (by decide), h76]
      have eX : xI (hw q J L) (some b) 20 (nI i) = some (J b i) := xw_I hT hN hi (by omega)
      refine ⟨_, by simp (disch := omega) only [fX3_carryRow_L2_b, fX3_carryRow_L42, nL, nI_add, nJ_mul, nJ_div, nJ_mod, nI_leI, nI_ltI, nI_eq, Option.bind_some, Option.bind_none, Nat.one_ne_zero, Nat.zero_ne_one, Nat.zero_add, Nat.add_zero, if_true, if_false, not_true_eq_false, not_false_eq_true, eN, show ¬ n ≤ i by omega, gm_I M, sm_I M, e76, gm73 M, f3, eX, ym188 M, pu_ne] <;> rfl, fun d d1 d2 => ?_, fun j hj => ?_, ?_, fun j => ?_⟩
      · rw [pu_ne d2, pu_ne d1]; exact f1 d d1 d2
      · rw [pu_nk hj, pu_ne (by decide)]; exact f2 j hj
      · rw [pu_eq, Nat.add_assoc]
      · rw [pu_ne (by decide), pu_at, f4, f1 b (by omega) (by omega)]
        by_cases e : j = a + i
        · subst e
          rw [if_pos rfl, if_pos (by omega), Nat.add_sub_cancel_left]
        · rw [if_neg e]
          by_cases e2 : a ≤ j ∧ j < a + i
          · rw [if_pos e2, if_pos (by omega)]
          · rw [if_neg e2, if_neg (by omega)]
    · rintro J ⟨f1, f2, f3, f4⟩
      have eN : nA (hw q J L) (some b) = some (nI n) := nw_A (by omega) hN
      exact ⟨_, by simp (disch := omega) only [fX3_carryRow_L2_b, nL, nI_add, nJ_mul, nJ_div, nJ_mod, nI_leI, nI_ltI, nI_eq, Option.bind_some, Option.bind_none, Nat.one_ne_zero, Nat.zero_ne_one, Nat.zero_add, Nat.add_zero, if_true, if_false, not_true_eq_false, not_false_eq_true, eN, Nat.le_refl, xr_s] <;> rfl, J, rfl, f1, f2, f3, f4⟩
  obtain ⟨t, h1, I', rfl, h2⟩ := this
  exact ⟨I', h1, h2⟩
theorem mE_carT (M : MS q) {b n a : Nat} (hT : ph_T q b = 20) (hN : ph_N q b = n) (hb : b ≠ 188 ∧ b ≠ 136) (h76 : I 136 76 = nI 1) (h75 : I 136 75 = nI a) (h : a + n ≤ 8800) :
    ∃ I', fX3_carryRow 136 (some b) (hw q I L) = some ((), hw q I' L) ∧ (∀ c, c ≠ b → c ≠ 136 → I' c = I c) ∧ (∀ j, j ≠ 75 → I' 136 j = I 136 j) ∧ I' 136 75 = nI (a + n) ∧ ∀ k, k < n → I' b k = I 188 (a + k) := by
  unfold fX3_carryRow fX3_carryRow_L2
  have : ∃ t, whl (fun s : Int32 × ph_t => fX3_carryRow_L2_b 136 (some b) s.1 s.2) (0, hw q I L) = some t ∧ ∃ I', t = ((), hw q I' L) ∧ (∀ c, c ≠ b → c ≠ 136 → I' c = I c) ∧ (∀ j, j ≠ 75 → I' 136 j = I 136 j) ∧ I' 136 75 = nI (a + n) ∧ ∀ k, k < n → I' b k = I 188 (a + k) := by
    refine whl_st (α := iF) (fun i J => (nI i, hw q J L)) (fun i J => (∀ c, c ≠ b → c ≠ 136 → J c = I c) ∧ (∀ j, j ≠ 75 → J 136 j = I 136 j) ∧ J 136 75 = nI (a + i) ∧ ∀ k, k < i → J b k = I 188 (a + k)) n (a := I) rfl ⟨fun _ _ _ => rfl, fun _ _ => rfl, h75, fun j hj => by omega⟩ ?_ ?_
    · rintro i J hi ⟨f1, f2, f3, f4⟩
      have eN : nA (hw q J L) (some b) = some (nI n) := nw_A (by omega) hN
      have e76 : J 136 76 = nI 1 := by rw [f2 76 (by decide), h76]
      have eY : yI (hw q J L) (some b) 20 (nI i) (J 188 (a + i)) = some (hw q (ph_u J b i (J 188 (a + i))) L) := yw_I hT hN hi (by omega)
      have h136 : ¬ (136 = b) := by omega
      refine ⟨_, by simp (disch := omega) only [fX3_carryRow_L2_b, fX3_carryRow_L42, nL, nI_add, nJ_mul, nJ_div, nJ_mod, nI_leI, nI_ltI, nI_eq, Option.bind_some, Option.bind_none, Nat.one_ne_zero, Nat.zero_ne_one, Nat.zero_add, Nat.add_zero, if_true, if_false, not_true_eq_false, not_false_eq_true, eN, show ¬ n ≤ i by omega, gm_I M, sm_I M, e76, gm73 M, f3, xm188 M, eY, pu_ne h136] <;> rfl, fun d d1 d2 => ?_, fun j hj => ?_, ?_, fun j hj => ?_⟩
      · rw [pu_ne d2, pu_ne d1]; exact f1 d d1 d2
      · rw [pu_nk hj, pu_ne (by omega)]; exact f2 j hj
      · rw [pu_eq, Nat.add_assoc]
      · rw [pu_ne (by omega), pu_at, f1 188 (by omega) (by omega)]
        by_cases e : j = i
        · subst e
          rw [if_pos rfl]
        · rw [if_neg e]
          exact f4 j (by omega)
    · rintro J ⟨f1, f2, f3, f4⟩
      have eN : nA (hw q J L) (some b) = some (nI n) := nw_A (by omega) hN
      exact ⟨_, by simp (disch := omega) only [fX3_carryRow_L2_b, nL, nI_add, nJ_mul, nJ_div, nJ_mod, nI_leI, nI_ltI, nI_eq, Option.bind_some, Option.bind_none, Nat.one_ne_zero, Nat.zero_ne_one, Nat.zero_add, Nat.add_zero, if_true, if_false, not_true_eq_false, not_false_eq_true, eN, Nat.le_refl, xr_s] <;> rfl, J, rfl, f1, f2, f3, f4⟩
  obtain ⟨t, h1, I', rfl, h2⟩ := this
  exact ⟨I', h1, h2⟩
def rwOK (q : ph_t) (p : Nat × Nat × Nat) : Prop := (p.1, p.2.1) ∈ mfd ∧ ph_T q p.2.1 = 20 ∧ ph_N q p.2.1 = p.2.2 ∧ p.2.1 ≠ 188 ∧ p.2.1 ≠ 136
theorem carr_F (M : MS q) : ∀ (rs : List (Nat × Nat × Nat)) (a : Nat) (I : iF), (∀ p ∈ rs, rwOK q p) → I 136 76 = nI 0 → I 136 75 = nI a → a + rwT rs ≤ 8800 →
    ∃ I', carr 136 (rs.map (·.1)) (hw q I L) = some ((), hw q I' L) ∧ (∀ c, c ≠ 188 → c ≠ 136 → I' c = I c) ∧ (∀ j, j ≠ 75 → I' 136 j = I 136 j) ∧ (∀ j, (j < a ∨ a + rwT rs ≤ j) → I' 188 j = I 188 j) ∧ rwA (fun b i j => I' 188 j = I b i) a rs
  | [], a, I, _, _, _, _ => ⟨I, rfl, fun _ _ _ => rfl, fun _ _ => rfl, fun _ _ => rfl, trivial⟩
  | p :: rs, a, I, ok, h76, h75, hl => by
    obtain ⟨o1, o2, o3, o4⟩ := ok p List.mem_cons_self
    have hl : a + (p.2.2 + rwT rs) ≤ 8800 := hl
    obtain ⟨I1, e1, f1, f2, f3, f4⟩ := mE_carF (L := L) M o2 o3 o4 h76 h75 (by omega)
    obtain ⟨I2, e2, g1, g2, g3, g4⟩ := carr_F M rs (a + p.2.2) I1 (fun p hp => ok p (List.mem_cons_of_mem _ hp)) (by rw [f2 76 (by decide), h76]) f3 (by omega)
    refine ⟨I2, ?_, fun c c1 c2 => (g1 c c1 c2).trans (f1 c c1 c2), fun j hj => (g2 j hj).trans (f2 j hj), fun j hj => ?_, fun i hi => ?_, ?_⟩
    · show ((gR (hw q I L) (some 136) 2 p.1).bind fun x => (dv_ (hw q I L) (some 136) 2).bind fun a => (fX3_carryRow a x (hw q I L)).bind fun r => carr 136 (rs.map (·.1)) r.2) = _
      rw [gm_R M p.2.1 o1]
      simp only [Option.bind_some, dm M, e1]
      exact e2
    · have hj : j < a ∨ a + (p.2.2 + rwT rs) ≤ j := hj
      rw [g3 j (by omega), f4, if_neg (by omega)]
    · show I2 188 (a + i) = I p.2.1 i
      rw [g3 _ (by omega), f4, if_pos (by omega), Nat.add_sub_cancel_left]
    · refine rwA_to rs _ (fun b i j hb h1 h2 h3 => ?_) g4
      obtain ⟨p', m, e⟩ := hb
      have := ok p' (List.mem_cons_of_mem _ m)
      show I2 188 j = I b i
      rw [h3, f1 b (by rw [← e]; exact this.2.2.2.1) (by rw [← e]; exact this.2.2.2.2)]
theorem carr_T (M : MS q) : ∀ (rs : List (Nat × Nat × Nat)) (a : Nat) (I : iF), (∀ p ∈ rs, rwOK q p) → rs.Pairwise (fun x y => x.2.1 ≠ y.2.1) → I 136 76 = nI 1 → I 136 75 = nI a → a + rwT rs ≤ 8800 →
    ∃ I', carr 136 (rs.map (·.1)) (hw q I L) = some ((), hw q I' L) ∧ (∀ c, (∀ p ∈ rs, c ≠ p.2.1) → c ≠ 136 → I' c = I c) ∧ (∀ j, j ≠ 75 → I' 136 j = I 136 j) ∧ rwA (fun b i j => I' b i = I 188 j) a rs
  | [], a, I, _, _, _, _, _ => ⟨I, rfl, fun _ _ _ => rfl, fun _ _ => rfl, trivial⟩
  | p :: rs, a, I, ok, nd, h76, h75, hl => by
    obtain ⟨o1, o2, o3, o4⟩ := ok p List.mem_cons_self
    have nd := List.pairwise_cons.mp nd
    have hl : a + (p.2.2 + rwT rs) ≤ 8800 := hl
    obtain ⟨I1, e1, f1, f2, f3, f4⟩ := mE_carT (L := L) M o2 o3 o4 h76 h75 (by omega)
    obtain ⟨I2, e2, g1, g2, g4⟩ := carr_T M rs (a + p.2.2) I1 (fun p hp => ok p (List.mem_cons_of_mem _ hp)) nd.2 (by rw [f2 76 (by decide), h76]) f3 (by omega)
    refine ⟨I2, ?_, fun c c1 c2 => (g1 c (fun p' m => c1 p' (List.mem_cons_of_mem _ m)) c2).trans (f1 c (c1 p List.mem_cons_self) c2), fun j hj => (g2 j hj).trans (f2 j hj), fun i hi => ?_, ?_⟩
    · show ((gR (hw q I L) (some 136) 2 p.1).bind fun x => (dv_ (hw q I L) (some 136) 2).bind fun a => (fX3_carryRow a x (hw q I L)).bind fun r => carr 136 (rs.map (·.1)) r.2) = _
      rw [gm_R M p.2.1 o1]
      simp only [Option.bind_some, dm M, e1]
      exact e2
    · show I2 p.2.1 i = I 188 (a + i)
      rw [g1 _ (fun p' m => nd.1 p' m) o4.2]
      exact f4 i hi
    · refine rwA_to rs _ (fun b i j hb h1 h2 h3 => ?_) g4
      show I2 b i = I 188 j
      rw [h3, f1 188 (fun z => o4.1 z.symm) (by decide)]
def crL : List (Nat × Nat × Nat) := [(1, 137, 9), (2, 138, 6), (3, 139, 6), (4, 140, 6), (5, 141, 6), (6, 142, 6), (7, 143, 6), (8, 144, 10), (9, 145, 10), (10, 146, 10), (11, 147, 8), (12, 148, 8), (13, 149, 10), (14, 150, 10), (15, 151, 56), (57, 179, 1520)]
theorem crL_ok (M : MS q) : ∀ p ∈ crL, rwOK q p := by
  intro p hp
  have h : (p.1, p.2.1) ∈ mfd ∧ mtg p.2.1 = 20 ∧ mlg p.2.1 = p.2.2 ∧ p.2.1 ≠ 188 ∧ p.2.1 ≠ 136 ∧ 137 ≤ p.2.1 ∧ p.2.1 < 190 := (by decide +kernel : ∀ p ∈ crL, (p.1, p.2.1) ∈ mfd ∧ mtg p.2.1 = 20 ∧ mlg p.2.1 = p.2.2 ∧ p.2.1 ≠ 188 ∧ p.2.1 ≠ 136 ∧ 137 ≤ p.2.1 ∧ p.2.1 < 190) p hp
  exact ⟨h.1, (mT M h.2.2.2.2.2).trans h.2.1, (mN M h.2.2.2.2.2).trans h.2.2.1, h.2.2.2.1, h.2.2.2.2.1⟩
/-- out of all the rows: by field and place -/
theorem crL_at {P : Nat → Nat → Nat → Prop} {a : Nat} (h : rwA P (a + 1) crL) : (∀ f i, 1 ≤ f → f ≤ 15 → i < mlg (136 + f) → P (136 + f) i (a + mio f + i)) ∧ ∀ i, i < 1520 → P 179 i (a + 168 + i) := by
  unfold crL at h
  simp only [rwA, Nat.add_assoc, Nat.reduceAdd] at h
  obtain ⟨h1, h2, h3, h4, h5, h6, h7, h8, h9, h10, h11, h12, h13, h14, h15, h16, -⟩ := h
  refine ⟨fun f i f1 f2 hi => ?_, fun i hi => ?_⟩
  · rw [Nat.add_assoc]
    have : f = 1 ∨ f = 2 ∨ f = 3 ∨ f = 4 ∨ f = 5 ∨ f = 6 ∨ f = 7 ∨ f = 8 ∨ f = 9 ∨ f = 10 ∨ f = 11 ∨ f = 12 ∨ f = 13 ∨ f = 14 ∨ f = 15 := by omega
    rcases this with rfl | rfl | rfl | rfl | rfl | rfl | rfl | rfl | rfl | rfl | rfl | rfl | rfl | rfl | rfl
    · exact h1 i hi
    · exact h2 i hi
    · exact h3 i hi
    · exact h4 i hi
    · exact h5 i hi
    · exact h6 i hi
    · exact h7 i hi
    · exact h8 i hi
    · exact h9 i hi
    · exact h10 i hi
    · exact h11 i hi
    · exact h12 i hi
    · exact h13 i hi
    · exact h14 i hi
    · exact h15 i hi
  · rw [Nat.add_assoc]
    exact h16 i hi
theorem kE_carF (K : mK q I A T sM) {k : Nat} (hk : k < 5) : ∃ I', fX3_carriesAll 136 (nI k) (nI 0) (hw q I L) = some ((), hw q I' L) ∧ (∀ c, c ≠ 188 → c ≠ 180 → c ≠ 136 → I' c = I c) ∧ (∀ j, j ≠ 75 → j ≠ 76 → I' 136 j = I 136 j) ∧ (∀ j, (j < 1760 * k ∨ 1760 * k + 1760 ≤ j) → I' 188 j = I 188 j) ∧ mlR (mlI I' k) A ∧ mK q I' A T sM := by
  have K0 := K
  obtain ⟨M, R, hT, hsM, hW, h24⟩ := K
  generalize hJ : ph_u (ph_u (ph_u I 136 75 (nI (1760 * k))) 136 76 (nI 0)) 180 0 (I 136 59) = J0
  have j0 : ∀ c, c ≠ 180 → c ≠ 136 → J0 c = I c := fun c c1 c2 => by rw [← hJ, pu_ne c1, pu_ne c2, pu_ne c2]
  have j1 : ∀ j, j ≠ 75 → j ≠ 76 → J0 136 j = I 136 j := fun j a1 a2 => by rw [← hJ, pu_ne (by decide), pu_nk a2, pu_nk a1]
  have j75 : J0 136 75 = nI (1760 * k) := by rw [← hJ, pu_ne (by decide), pu_nk (by decide), pu_eq]
  have j76 : J0 136 76 = nI 0 := by rw [← hJ, pu_ne (by decide), pu_eq]
  have j8 : J0 180 0 = I 136 59 := by rw [← hJ, pu_eq]
  obtain ⟨J1, e1, f1, f2, f3, f4⟩ := mE_carF (L := L) (I := J0) M (b := 180) (n := 1) (a := 1760 * k) (mT M (by decide)) (mN M (by decide)) (by decide) j76 j75 (by omega)
  have k8 : J1 180 0 = I 136 59 := by rw [f1 180 (by decide) (by decide), j8]
  have k59 : ph_u J1 136 59 (I 136 59) 136 = J1 136 := ph_us (by rw [f2 59 (by decide), j1 59 (by decide) (by decide)])
  generalize hJ2 : ph_u J1 136 59 (I 136 59) = J2
  have l0 : ∀ c, J2 c = J1 c := fun c => by
    rw [← hJ2]
    by_cases e : c = 136
    · subst e; exact k59
    · rw [pu_ne e]
  have sz : rwT crL = 1687 := by decide +kernel
  obtain ⟨I', e2, g1, g2, g3, g4⟩ := carr_F (L := L) M crL (1760 * k + 1) J2 (crL_ok M) (by rw [l0, f2 76 (by decide), j76]) (by rw [l0, f3]) (by rw [sz]; omega)
  rw [sz] at g3
  have hz := crL_at g4
  have e0 : ∀ c, c ≠ 188 → c ≠ 180 → c ≠ 136 → I' c = I c := fun c c1 c2 c3 => by rw [g1 c c1 c3, l0, f1 c c1 c3, j0 c c2 c3]
  have b0 : ∀ c, c ≠ 188 → c ≠ 180 → c ≠ 136 → J2 c = I c := fun c c1 c2 c3 => by rw [l0, f1 c c1 c3, j0 c c2 c3]
  have e6 : ∀ j, j ≠ 75 → j ≠ 76 → I' 136 j = I 136 j := fun j a1 a2 => by rw [g2 j a1, l0, f2 j a1, j1 j a1 a2]
  refine ⟨I', ?_, e0, e6, fun j hj => ?_, mlR_to hW R ?_ (fun f i a1 a2 hi => ?_) (fun i hi => ?_), K0.keep (fun a ha => e0 a (by omega) (by omega) (by omega)) (e6 59 (by decide) (by decide)) (e6 32 (by decide) (by decide))⟩
  · rw [carr_eq]
    have z := sm_Zn (I := ph_u I 136 75 (nI (1760 * k))) (L := L) M (f := 76) false
    simp only [Bool.false_eq_true, if_false] at z
    have e2 : carr 136 [1, 2, 3, 4, 5, 6, 7, 8, 9, 10, 11, 12, 13, 14, 15, 57] (hw q J2 L) = some ((), hw q I' L) := e2
    simp (disch := omega) only [nL, nI_add, nJ_mul, nJ_div, nJ_mod, nI_leI, nI_ltI, nI_eq, Option.bind_some, Option.bind_none, Nat.one_ne_zero, Nat.zero_ne_one, Nat.zero_add, Nat.add_zero, if_true, if_false, not_true_eq_false, not_false_eq_true, sm_I M, z, gm58 M, gm_I M, pu_nk, ym180 M, hJ, dm M, e1, xm180 M, k8, hJ2, e2]
  · rw [g3 j (by omega), l0, f4, if_neg (by omega), j0 188 (by decide) (by decide)]
  · show I' 188 (1760 * k) = I 136 59
    rw [g3 _ (by omega), l0, f4, if_pos (by omega), Nat.sub_self, j8]
  · show (if f = 0 then _ else I' 188 (1760 * k + mio f + i)) = mlL I f i
    rw [if_neg (by omega), mlL_f a1 a2]
    exact (hz.1 f i a1 a2 hi).trans (by rw [b0 _ (by omega) (by omega) (by omega)])
  · show I' 188 (1760 * k + 168 + i) = I 179 i
    exact (hz.2 i hi).trans (by rw [b0 _ (by omega) (by omega) (by omega)])
theorem kE_carT (K : mK q I A T sM) {B : ld_t} {k : Nat} (hk : k < 5) (RB : mlR (mlI I k) B) (WB : lW B) : ∃ I', fX3_carriesAll 136 (nI k) (nI 1) (hw q I L) = some ((), hw q I' L) ∧ (∀ c, (c < 136 ∨ (151 < c ∧ c < 179) ∨ 180 < c) → I' c = I c) ∧ (∀ j, j ≠ 59 → j ≠ 75 → j ≠ 76 → I' 136 j = I 136 j) ∧ mK q I' B T sM := by
  have K0 := K
  obtain ⟨M, R, hT, hsM, hW, h24⟩ := K
  generalize hJ : ph_u (ph_u (ph_u I 136 75 (nI (1760 * k))) 136 76 (nI 1)) 180 0 (I 136 59) = J0
  have j0 : ∀ c, c ≠ 180 → c ≠ 136 → J0 c = I c := fun c c1 c2 => by rw [← hJ, pu_ne c1, pu_ne c2, pu_ne c2]
  have j1 : ∀ j, j ≠ 75 → j ≠ 76 → J0 136 j = I 136 j := fun j a1 a2 => by rw [← hJ, pu_ne (by decide), pu_nk a2, pu_nk a1]
  have j75 : J0 136 75 = nI (1760 * k) := by rw [← hJ, pu_ne (by decide), pu_nk (by decide), pu_eq]
  have j76 : J0 136 76 = nI 1 := by rw [← hJ, pu_ne (by decide), pu_eq]
  obtain ⟨J1, e1, f1, f2, f3, f4⟩ := mE_carT (L := L) (I := J0) M (b := 180) (n := 1) (a := 1760 * k) (mT M (by decide)) (mN M (by decide)) (by decide) j76 j75 (by omega)
  have k8 : J1 180 0 = I 188 (1760 * k) := by rw [f4 0 (by decide), j0 188 (by decide) (by decide), Nat.add_zero]
  generalize hJ2 : ph_u J1 136 59 (I 188 (1760 * k)) = J2
  have l0 : ∀ c, c ≠ 136 → J2 c = J1 c := fun c c1 => by rw [← hJ2, pu_ne c1]
  have l1 : ∀ j, j ≠ 59 → J2 136 j = J1 136 j := fun j a1 => by rw [← hJ2, pu_nk a1]
  have l59 : J2 136 59 = I 188 (1760 * k) := by rw [← hJ2, pu_eq]
  have sz : rwT crL = 1687 := by decide +kernel
  obtain ⟨I', e2, g1, g2, g4⟩ := carr_T (L := L) M crL (1760 * k + 1) J2 (crL_ok M) (by decide +kernel) (by rw [l1 _ (by decide), f2 76 (by decide), j76]) (by rw [l1 _ (by decide), f3]) (by rw [sz]; omega)
  have hz := crL_at g4
  have g1 : ∀ c, (c < 136 ∨ (151 < c ∧ c < 179) ∨ 179 < c) → I' c = J2 c := fun c hc => g1 c (fun p hp z => by
    have : (137 ≤ p.2.1 ∧ p.2.1 ≤ 151) ∨ p.2.1 = 179 := (by decide +kernel : ∀ p ∈ crL, (137 ≤ p.2.1 ∧ p.2.1 ≤ 151) ∨ p.2.1 = 179) p hp
    omega) (by omega)
  have e0 : ∀ c, (c < 136 ∨ (151 < c ∧ c < 179) ∨ 180 < c) → I' c = I c := fun c hc => by rw [g1 c (by omega), l0 c (by omega), f1 c (by omega) (by omega), j0 c (by omega) (by omega)]
  have e6 : ∀ j, j ≠ 59 → j ≠ 75 → j ≠ 76 → I' 136 j = I 136 j := fun j a0 a1 a2 => by rw [g2 j a1, l1 j a0, f2 j a1, j1 j a1 a2]
  have b8 : J2 188 = I 188 := by rw [l0 _ (by decide), f1 188 (by decide) (by decide), j0 188 (by decide) (by decide)]
  refine ⟨I', ?_, e0, e6, M, mlR_to WB RB ?_ (fun f i a1 a2 hi => ?_) (fun i hi => ?_), ?_, ?_, WB, h24⟩
  · rw [carr_eq]
    have z := sm_Zn (I := ph_u I 136 75 (nI (1760 * k))) (L := L) M (f := 76) true
    simp only [if_true] at z
    have e2 : carr 136 [1, 2, 3, 4, 5, 6, 7, 8, 9, 10, 11, 12, 13, 14, 15, 57] (hw q J2 L) = some ((), hw q I' L) := e2
    simp (disch := omega) only [nL, nI_add, nJ_mul, nJ_div, nJ_mod, nI_leI, nI_ltI, nI_eq, Option.bind_some, Option.bind_none, Nat.one_ne_zero, Nat.zero_ne_one, Nat.zero_add, Nat.add_zero, if_true, if_false, not_true_eq_false, not_false_eq_true, sm_I M, z, gm58 M, gm_I M, pu_nk, ym180 M, hJ, dm M, e1, xm180 M, k8, hJ2, e2]
  · show I' 136 59 = I 188 (1760 * k)
    rw [g2 59 (by decide), l59]
  · show mlL I' f i = (if f = 0 then _ else I 188 (1760 * k + mio f + i))
    rw [if_neg (by omega), mlL_f a1 a2]
    exact (hz.1 f i a1 a2 hi).trans (by rw [b8])
  · show I' 179 i = I 188 (1760 * k + 168 + i)
    exact (hz.2 i hi).trans (by rw [b8])
  · rw [e0 171 (by omega)]; exact hT
  · rw [e6 32 (by decide) (by decide) (by decide)]; exact hsM
end MCR
