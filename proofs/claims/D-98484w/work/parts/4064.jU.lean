/-! P2 JU: new cells -/
/-- nothing lies behind the last cell -/
def zOK (q : ph_t) (I : iF) (L : lF_) : Prop := ∀ a j, ph_z q ≤ a → I a j = 0 ∧ L a j = 0
theorem al_e {q : ph_t} {I : iF} {L : lF_} (h : zOK q I L) (t n : Nat) : ph_al (hw q I L) t n = hw (ph_al q t n) I L := by
  have e1 : (fun b j => if b = ph_z q then (0 : Int32) else I b j) = I := by
    funext b j
    split
    · rename_i c
      exact (h b j (by omega)).1.symm
    · rfl
  have e2 : (fun b j => if b = ph_z q then (0 : Int64) else L b j) = L := by
    funext b j
    split
    · rename_i c
      exact (h b j (by omega)).2.symm
    · rfl
  show (_, _, (fun b j => if b = ph_z q then (0 : Int32) else I b j), (fun b j => if b = ph_z q then (0 : Int64) else L b j), _) = _
  rw [e1, e2]
  rfl
theorem zOK.al {q : ph_t} {I : iF} {L : lF_} (h : zOK q I L) (t n : Nat) : zOK (ph_al q t n) I L := fun a j ha => h a j (by
  have : ph_z q + 1 ≤ a := ha
  omega)
theorem wR_e {q : ph_t} {I : iF} {L : lF_} (a k : Nat) (v : Option Nat) : ph_wR (hw q I L) a k v = hw (ph_wR q a k v) I L := rfl
theorem nw_e {β : Type} {q : ph_t} {I : iF} {L : lF_} (h : zOK q I L) (c n : Nat) (k : Nat → ph_t → Option β) : nw_ (hw q I L) c n k = k (ph_z q) (hw (ph_al q c n) I L) := by
  unfold nw_
  rw [al_e h]
  rfl
theorem na_e {β : Type} {q : ph_t} {I : iF} {L : lF_} (h : zOK q I L) (t n : Nat) (hn : n ≤ 60000000) (k : Nat → ph_t → Option β) : na_ (hw q I L) t (nI n) k = k (ph_z q) (hw (ph_al q t n) I L) := by
  unfold na_
  rw [nI_toInt (by omega), if_pos (by omega), nI_clamp (by omega), al_e h]
  rfl
/-- a cell's new array -/
def aq (q : ph_t) (o f t n : Nat) : ph_t := ph_wR (ph_al q t n) o f (some (ph_z q))
theorem aq_T {q : ph_t} {o f t n b : Nat} : ph_T (aq q o f t n) b = if b = ph_z q then t else ph_T q b := rfl
theorem aq_N {q : ph_t} {o f t n b : Nat} : ph_N (aq q o f t n) b = if b = ph_z q then n else ph_N q b := rfl
theorem aq_z {q : ph_t} {o f t n : Nat} : ph_z (aq q o f t n) = ph_z q + 1 := rfl
theorem aq_s {q : ph_t} {o f t n : Nat} : ph_s (aq q o f t n) = ph_s q + n := rfl
theorem aq_R {q : ph_t} {o f t n b j : Nat} : ph_R (aq q o f t n) b j = if b = o ∧ j = f then some (ph_z q) else if b = ph_z q then none else ph_R q b j := rfl
theorem zOK.aq {q : ph_t} {I : iF} {L : lF_} (h : zOK q I L) (o f t n : Nat) : zOK (aq q o f t n) I L := h.al t n
theorem na_aq {β : Type} {q : ph_t} {I : iF} {L : lF_} {c o : Nat} (h : zOK q I L) (ho : ph_T q o = c) (hz : o < ph_z q) (t n f : Nat) (hn : n ≤ 60000000) (k : ph_t → Option β) : (na_ (hw q I L) t (nI n) fun a g => (sR g (some o) c f (some a)).bind k) = k (hw (aq q o f t n) I L) := by
  rw [na_e h t n hn]
  have e : sR (hw (ph_al q t n) I L) (some o) c f (some (ph_z q)) = some (hw (aq q o f t n) I L) := by
    have : ph_T (ph_al q t n) o = c := by
      show (if o = ph_z q then t else ph_T q o) = c
      rw [if_neg (by omega)]
      exact ho
    exact if_pos this
  rw [e, Option.bind_some]
/-- a Gorge's rows -/
def gqs (q : ph_t) (o : Nat) : ph_t := aq (aq (aq (aq (aq (aq (aq (aq (aq (aq (aq (aq (aq q o 9 20 6) o 10 20 6) o 11 20 6) o 12 20 6) o 13 20 6) o 14 20 6) o 15 20 36) o 16 20 8) o 17 20 8) o 18 20 20) o 19 21 28) o 20 21 560) o 21 20 400
theorem g_init {q : ph_t} {I : iF} {L : lF_} {o : Nat} (h : zOK q I L) (ho : ph_T q o = 1) (h64 : 64 ≤ o) (hz : o < ph_z q) : fX1_init o (hw q I L) = some ((), hw (gqs q o) I L) := by
  have st : ∀ (Q : ph_t), (zOK Q I L ∧ ph_T Q o = 1 ∧ o < ph_z Q) → ∀ f t n, zOK (aq Q o f t n) I L ∧ ph_T (aq Q o f t n) o = 1 ∧ o < ph_z (aq Q o f t n) := fun Q hQ f t n => ⟨hQ.1.aq o f t n, by rw [aq_T, if_neg (by omega)]; exact hQ.2.1, by rw [aq_z]; omega⟩
  have p0 : zOK q I L ∧ ph_T q o = 1 ∧ o < ph_z q := ⟨h, ho, hz⟩
  have p1 := st _ p0 9 20 6
  have p2 := st _ p1 10 20 6
  have p3 := st _ p2 11 20 6
  have p4 := st _ p3 12 20 6
  have p5 := st _ p4 13 20 6
  have p6 := st _ p5 14 20 6
  have p7 := st _ p6 15 20 36
  have p8 := st _ p7 16 20 8
  have p9 := st _ p8 17 20 8
  have p10 := st _ p9 18 20 20
  have p11 := st _ p10 19 21 28
  have p12 := st _ p11 20 21 560
  unfold fX1_init gqs
  rw [if_pos h64]
  simp only [nL]
  rw [na_aq p0.1 p0.2.1 p0.2.2 20 6 9 (by decide), na_aq p1.1 p1.2.1 p1.2.2 20 6 10 (by decide), na_aq p2.1 p2.2.1 p2.2.2 20 6 11 (by decide), na_aq p3.1 p3.2.1 p3.2.2 20 6 12 (by decide), na_aq p4.1 p4.2.1 p4.2.2 20 6 13 (by decide), na_aq p5.1 p5.2.1 p5.2.2 20 6 14 (by decide), na_aq p6.1 p6.2.1 p6.2.2 20 36 15 (by decide), na_aq p7.1 p7.2.1 p7.2.2 20 8 16 (by decide), na_aq p8.1 p8.2.1 p8.2.2 20 8 17 (by decide), na_aq p9.1 p9.2.1 p9.2.2 20 20 18 (by decide), na_aq p10.1 p10.2.1 p10.2.2 21 28 19 (by decide), na_aq p11.1 p11.2.1 p11.2.2 21 560 20 (by decide), na_aq p12.1 p12.2.1 p12.2.2 20 400 21 (by decide)]
theorem gqs_z {q : ph_t} {o : Nat} : ph_z (gqs q o) = ph_z q + 13 := rfl
theorem gqs_s {q : ph_t} {o : Nat} : ph_s (gqs q o) = ph_s q + 1096 := by
  unfold gqs
  simp only [aq_s]
theorem gqs_lo {q : ph_t} {o b : Nat} (hb : b < ph_z q) : ph_T (gqs q o) b = ph_T q b ∧ ph_N (gqs q o) b = ph_N q b ∧ (b ≠ o → ∀ j, ph_R (gqs q o) b j = ph_R q b j) := by
  have st : ∀ (Q : ph_t) (f t n : Nat), ((ph_T Q b = ph_T q b ∧ ph_N Q b = ph_N q b ∧ (b ≠ o → ∀ j, ph_R Q b j = ph_R q b j)) ∧ b < ph_z Q) → ((ph_T (aq Q o f t n) b = ph_T q b ∧ ph_N (aq Q o f t n) b = ph_N q b ∧ (b ≠ o → ∀ j, ph_R (aq Q o f t n) b j = ph_R q b j)) ∧ b < ph_z (aq Q o f t n)) := fun Q f t n hQ =>
    ⟨⟨by rw [aq_T, if_neg (by omega)]; exact hQ.1.1, by rw [aq_N, if_neg (by omega)]; exact hQ.1.2.1, fun h j => by rw [aq_R, if_neg (fun z => h z.1), if_neg (by omega)]; exact hQ.1.2.2 h j⟩, by rw [aq_z]; omega⟩
  exact (st _ _ _ _ (st _ _ _ _ (st _ _ _ _ (st _ _ _ _ (st _ _ _ _ (st _ _ _ _ (st _ _ _ _ (st _ _ _ _ (st _ _ _ _ (st _ _ _ _ (st _ _ _ _ (st _ _ _ _ (st _ _ _ _ ⟨⟨rfl, rfl, fun _ _ => rfl⟩, hb⟩))))))))))))).1
theorem gqs_GS {q : ph_t} {o : Nat} (ho : ph_T q o = 1) (hz : ph_z q = o + 1) : GS (gqs q o) o := by
  have hT : ∀ b, ph_T (gqs q o) b = if b = o + 13 then 20 else if b = o + 12 then 21 else if b = o + 11 then 21 else if b = o + 10 then 20 else if b = o + 9 then 20 else if b = o + 8 then 20 else if b = o + 7 then 20 else if b = o + 6 then 20 else if b = o + 5 then 20 else if b = o + 4 then 20 else if b = o + 3 then 20 else if b = o + 2 then 20 else if b = o + 1 then 20 else ph_T q b := fun b => by
    unfold gqs
    simp only [aq_T, aq_z, hz, Nat.add_assoc]
  have hN : ∀ b, ph_N (gqs q o) b = if b = o + 13 then 400 else if b = o + 12 then 560 else if b = o + 11 then 28 else if b = o + 10 then 20 else if b = o + 9 then 8 else if b = o + 8 then 8 else if b = o + 7 then 36 else if b = o + 6 then 6 else if b = o + 5 then 6 else if b = o + 4 then 6 else if b = o + 3 then 6 else if b = o + 2 then 6 else if b = o + 1 then 6 else ph_N q b := fun b => by
    unfold gqs
    simp only [aq_N, aq_z, hz, Nat.add_assoc]
  have hR : ∀ j, ph_R (gqs q o) o j = if j = 21 then some (o + 13) else if j = 20 then some (o + 12) else if j = 19 then some (o + 11) else if j = 18 then some (o + 10) else if j = 17 then some (o + 9) else if j = 16 then some (o + 8) else if j = 15 then some (o + 7) else if j = 14 then some (o + 6) else if j = 13 then some (o + 5) else if j = 12 then some (o + 4) else if j = 11 then some (o + 3) else if j = 10 then some (o + 2) else if j = 9 then some (o + 1) else ph_R q o j := fun j => by
    unfold gqs
    simp only [aq_R, aq_z, hz, Nat.add_assoc, true_and, show ∀ m, (o = o + m + 1) = False from fun m => eq_false (by omega), show ∀ m, (o = o + (m + 1)) = False from fun m => eq_false (by omega), if_false, Nat.reduceAdd]
  refine ⟨fun j hj => ⟨?_, fun h1 => ?_⟩, fun j h1 hj => ?_⟩
  · rw [hT]
    have : j = 0 ∨ j = 1 ∨ j = 2 ∨ j = 3 ∨ j = 4 ∨ j = 5 ∨ j = 6 ∨ j = 7 ∨ j = 8 ∨ j = 9 ∨ j = 10 ∨ j = 11 ∨ j = 12 ∨ j = 13 := by omega
    rcases this with rfl | rfl | rfl | rfl | rfl | rfl | rfl | rfl | rfl | rfl | rfl | rfl | rfl | rfl <;> simp [gtg, ho]
  · rw [hN]
    have : j = 1 ∨ j = 2 ∨ j = 3 ∨ j = 4 ∨ j = 5 ∨ j = 6 ∨ j = 7 ∨ j = 8 ∨ j = 9 ∨ j = 10 ∨ j = 11 ∨ j = 12 ∨ j = 13 := by omega
    rcases this with rfl | rfl | rfl | rfl | rfl | rfl | rfl | rfl | rfl | rfl | rfl | rfl | rfl <;> simp [glg]
  · rw [hR]
    have : j = 1 ∨ j = 2 ∨ j = 3 ∨ j = 4 ∨ j = 5 ∨ j = 6 ∨ j = 7 ∨ j = 8 ∨ j = 9 ∨ j = 10 ∨ j = 11 ∨ j = 12 ∨ j = 13 := by omega
    rcases this with rfl | rfl | rfl | rfl | rfl | rfl | rfl | rfl | rfl | rfl | rfl | rfl | rfl <;> simp
