/-! CORE E: field writes, arrays, new cells -/
theorem rf_fits_o {G : gv_t} {v : Option Nat} {ty : FieldType} (e : fk_ ty = 2) : fits ty (rf_ G v) = true ∧ narrow ty (rf_ G v) = rf_ G v := by
  unfold rf_
  cases ty <;> first | (simp [fk_] at e; done) | (cases rm_ G v <;> exact ⟨rfl, rfl⟩)
theorem sI_some {h : ph_t} {x : Option Nat} {c j : Nat} {v : Int32} {h' : ph_t} (e : sI h x c j v = some h') : ∃ a, x = some a ∧ ph_T h a = c ∧ h' = ph_wI h a j v := by
  unfold sI at e
  cases x with
  | none => cases e
  | some a =>
    simp only [Option.bind_some] at e
    split at e
    · exact ⟨a, rfl, by assumption, (Option.some.inj e).symm⟩
    · cases e
theorem sZ_some {h : ph_t} {x : Option Nat} {c j : Nat} {v : Int32} {h' : ph_t} (e : sZ h x c j v = some h') : ∃ a, x = some a ∧ ph_T h a = c ∧ (v = 0 ∨ v = 1) ∧ h' = ph_wI h a j v := by
  unfold sZ at e
  cases x with
  | none => cases e
  | some a =>
    simp only [Option.bind_some] at e
    split at e
    · rename_i q
      exact ⟨a, rfl, q.1, q.2, (Option.some.inj e).symm⟩
    · cases e
theorem sL_some {h : ph_t} {x : Option Nat} {c j : Nat} {v : Int64} {h' : ph_t} (e : sL h x c j v = some h') : ∃ a, x = some a ∧ ph_T h a = c ∧ h' = ph_wL h a j v := by
  unfold sL at e
  cases x with
  | none => cases e
  | some a =>
    simp only [Option.bind_some] at e
    split at e
    · exact ⟨a, rfl, by assumption, (Option.some.inj e).symm⟩
    · cases e
theorem sR_some {h : ph_t} {x : Option Nat} {c j : Nat} {v : Option Nat} {h' : ph_t} (e : sR h x c j v = some h') : ∃ a, x = some a ∧ ph_T h a = c ∧ h' = ph_wR h a j v := by
  unfold sR at e
  cases x with
  | none => cases e
  | some a =>
    simp only [Option.bind_some] at e
    split at e
    · exact ⟨a, rfl, by assumption, (Option.some.inj e).symm⟩
    · cases e
theorem fv_wI {G : gv_t} {h : ph_t} {a j i : Nat} {v : Int32} {ty : FieldType} (e : i ≠ j) : fv_ G (ph_wI h a j v) a ty i = fv_ G h a ty i := by
  cases ty <;> simp [fv_, wI_I, wI_L, wI_R, e]
theorem fv_wL {G : gv_t} {h : ph_t} {a j i : Nat} {v : Int64} {ty : FieldType} (e : i ≠ j) : fv_ G (ph_wL h a j v) a ty i = fv_ G h a ty i := by
  cases ty <;> simp [fv_, wL_I, wL_L, wL_R, e]
theorem fv_wR {G : gv_t} {h : ph_t} {a j i : Nat} {v : Option Nat} {ty : FieldType} (e : i ≠ j) : fv_ G (ph_wR h a j v) a ty i = fv_ G h a ty i := by
  cases ty <;> simp [fv_, wR_I, wR_L, wR_R, e]
theorem wI_Ib {h : ph_t} {a j : Nat} {v : Int32} : ∀ b, b ≠ a → ph_I (ph_wI h a j v) b = ph_I h b := by
  intro b e
  funext i
  simp [wI_I, e]
theorem wL_Lb {h : ph_t} {a j : Nat} {v : Int64} : ∀ b, b ≠ a → ph_L (ph_wL h a j v) b = ph_L h b := by
  intro b e
  funext i
  simp [wL_L, e]
theorem wR_Rb {h : ph_t} {a j : Nat} {v : Option Nat} : ∀ b, b ≠ a → ph_R (ph_wR h a j v) b = ph_R h b := by
  intro b e
  funext i
  simp [wR_R, e]
theorem tr_sI {T : Type} {G : gv_t} {Z : zx_t} {Gd : T → Prop} {cc : ByteArray} {own : String} {nL : Nat} {ret : Option FieldType} {pc : Nat} {L : lo_t} {st : List Value} {h : ph_t} {c N idx : Nat} {Cn : String} {Tb : u_T} {ty : Nat → FieldType} {x : Option Nat} {v : Int32} {o : ph_t → Option T} (C : Cz G Z cc own nL ret) (pc' : Nat) (hp : pc + 3 = pc') (hd : decode cc pc = .ok (.putfield idx, 3)) (kc : kc_ G c Cn Tb N ty) (j : Nat) (hj : j < N) (hk : ty j = .int) (hf : (Tb j).2.2.2 = false) (hl : fl_ own idx (Tb j).1 (Tb j).2.1 (Tb j).2.2.1)
    (k : ∀ h', Tr G Z Gd pc' L st h' (o h')) : Tr G Z Gd pc L (.int v :: rf_ G x :: st) h ((sI h x c j v).bind o) := by
  subst hp
  intro r hr hg
  obtain ⟨h', h1, h2⟩ := bind_some_of hr
  obtain ⟨a, rfl, h3, rfl⟩ := sI_some h1
  have K := k _ r h2 hg
  exact ⟨K.1, fun X kx H locs ls a1 a2 a3 a4 a5 => have C := C X kx; wp_ (h' := ph_wI h a j v) C hd kc hj hl (Or.inl hf) (by rw [hk]; rfl) (by rw [hk]; rfl) h3 a3 a4 (fun _ => rfl) (fun _ => rfl) rfl wI_Ib (fun _ _ => rfl) (fun _ _ => rfl) (by rw [hk]; simp [fv_, wI_I]) (fun i e => fv_wI e) (fun H' locs' b1 b2 => K.2 X kx H' locs' ls a1 a2 b1 b2 a5)⟩
theorem tr_sIF {T : Type} {G : gv_t} {Z : zx_t} {Gd : T → Prop} {cc : ByteArray} {own : String} {nL : Nat} {ret : Option FieldType} {pc : Nat} {L : lo_t} {st : List Value} {h : ph_t} {c N idx : Nat} {Cn : String} {Tb : u_T} {ty : Nat → FieldType} {x : Option Nat} {v : Int32} {o : ph_t → Option T} (C : Cz G Z cc own nL ret) (pc' : Nat) (hp : pc + 3 = pc') (hd : decode cc pc = .ok (.putfield idx, 3)) (kc : kc_ G c Cn Tb N ty) (j : Nat) (hj : j < N) (hk : ty j = .int) (hf : (Tb j).2.2.2 = true) (hin : ∀ X, zx_k Z X → (fx_h X).name = "<init>") (hdc : (Tb j).1 = own) (hl : Cond.fieldLink own idx (Tb j).1 (Tb j).2.1 (Tb j).2.2.1 ∈ lw_all)
    (k : ∀ h', Tr G Z Gd pc' L st h' (o h')) : Tr G Z Gd pc L (.int v :: rf_ G x :: st) h ((sI h x c j v).bind o) := by
  subst hp
  intro r hr hg
  obtain ⟨h', h1, h2⟩ := bind_some_of hr
  obtain ⟨a, rfl, h3, rfl⟩ := sI_some h1
  have K := k _ r h2 hg
  exact ⟨K.1, fun X kx H locs ls a1 a2 a3 a4 a5 => have C := C X kx; wp_ (h' := ph_wI h a j v) C hd kc hj (Or.inl hl) (Or.inr ⟨hf, hin X kx, hdc, hl⟩) (by rw [hk]; rfl) (by rw [hk]; rfl) h3 a3 a4 (fun _ => rfl) (fun _ => rfl) rfl wI_Ib (fun _ _ => rfl) (fun _ _ => rfl) (by rw [hk]; simp [fv_, wI_I]) (fun i e => fv_wI e) (fun H' locs' b1 b2 => K.2 X kx H' locs' ls a1 a2 b1 b2 a5)⟩
theorem tr_sZ {T : Type} {G : gv_t} {Z : zx_t} {Gd : T → Prop} {cc : ByteArray} {own : String} {nL : Nat} {ret : Option FieldType} {pc : Nat} {L : lo_t} {st : List Value} {h : ph_t} {c N idx : Nat} {Cn : String} {Tb : u_T} {ty : Nat → FieldType} {x : Option Nat} {v : Int32} {o : ph_t → Option T} (C : Cz G Z cc own nL ret) (pc' : Nat) (hp : pc + 3 = pc') (hd : decode cc pc = .ok (.putfield idx, 3)) (kc : kc_ G c Cn Tb N ty) (j : Nat) (hj : j < N) (hk : ty j = .boolean) (hf : (Tb j).2.2.2 = false) (hl : fl_ own idx (Tb j).1 (Tb j).2.1 (Tb j).2.2.1)
    (k : ∀ h', Tr G Z Gd pc' L st h' (o h')) : Tr G Z Gd pc L (.int v :: rf_ G x :: st) h ((sZ h x c j v).bind o) := by
  subst hp
  intro r hr hg
  obtain ⟨h', h1, h2⟩ := bind_some_of hr
  obtain ⟨a, rfl, h3, hz, rfl⟩ := sZ_some h1
  have K := k _ r h2 hg
  exact ⟨K.1, fun X kx H locs ls a1 a2 a3 a4 a5 => have C := C X kx; wp_ (h' := ph_wI h a j v) C hd kc hj hl (Or.inl hf) (by rw [hk]; rcases hz with rfl | rfl <;> rfl) (by rw [hk]; rcases hz with rfl | rfl <;> rfl) h3 a3 a4 (fun _ => rfl) (fun _ => rfl) rfl wI_Ib (fun _ _ => rfl) (fun _ _ => rfl) (by rw [hk]; simp [fv_, wI_I]) (fun i e => fv_wI e) (fun H' locs' b1 b2 => K.2 X kx H' locs' ls a1 a2 b1 b2 a5)⟩
theorem tr_sZF {T : Type} {G : gv_t} {Z : zx_t} {Gd : T → Prop} {cc : ByteArray} {own : String} {nL : Nat} {ret : Option FieldType} {pc : Nat} {L : lo_t} {st : List Value} {h : ph_t} {c N idx : Nat} {Cn : String} {Tb : u_T} {ty : Nat → FieldType} {x : Option Nat} {v : Int32} {o : ph_t → Option T} (C : Cz G Z cc own nL ret) (pc' : Nat) (hp : pc + 3 = pc') (hd : decode cc pc = .ok (.putfield idx, 3)) (kc : kc_ G c Cn Tb N ty) (j : Nat) (hj : j < N) (hk : ty j = .boolean) (hf : (Tb j).2.2.2 = true) (hin : ∀ X, zx_k Z X → (fx_h X).name = "<init>") (hdc : (Tb j).1 = own) (hl : Cond.fieldLink own idx (Tb j).1 (Tb j).2.1 (Tb j).2.2.1 ∈ lw_all)
    (k : ∀ h', Tr G Z Gd pc' L st h' (o h')) : Tr G Z Gd pc L (.int v :: rf_ G x :: st) h ((sZ h x c j v).bind o) := by
  subst hp
  intro r hr hg
  obtain ⟨h', h1, h2⟩ := bind_some_of hr
  obtain ⟨a, rfl, h3, hz, rfl⟩ := sZ_some h1
  have K := k _ r h2 hg
  exact ⟨K.1, fun X kx H locs ls a1 a2 a3 a4 a5 => have C := C X kx; wp_ (h' := ph_wI h a j v) C hd kc hj (Or.inl hl) (Or.inr ⟨hf, hin X kx, hdc, hl⟩) (by rw [hk]; rcases hz with rfl | rfl <;> rfl) (by rw [hk]; rcases hz with rfl | rfl <;> rfl) h3 a3 a4 (fun _ => rfl) (fun _ => rfl) rfl wI_Ib (fun _ _ => rfl) (fun _ _ => rfl) (by rw [hk]; simp [fv_, wI_I]) (fun i e => fv_wI e) (fun H' locs' b1 b2 => K.2 X kx H' locs' ls a1 a2 b1 b2 a5)⟩
theorem tr_sL {T : Type} {G : gv_t} {Z : zx_t} {Gd : T → Prop} {cc : ByteArray} {own : String} {nL : Nat} {ret : Option FieldType} {pc : Nat} {L : lo_t} {st : List Value} {h : ph_t} {c N idx : Nat} {Cn : String} {Tb : u_T} {ty : Nat → FieldType} {x : Option Nat} {v : Int64} {o : ph_t → Option T} (C : Cz G Z cc own nL ret) (pc' : Nat) (hp : pc + 3 = pc') (hd : decode cc pc = .ok (.putfield idx, 3)) (kc : kc_ G c Cn Tb N ty) (j : Nat) (hj : j < N) (hk : ty j = .long) (hf : (Tb j).2.2.2 = false) (hl : fl_ own idx (Tb j).1 (Tb j).2.1 (Tb j).2.2.1)
    (k : ∀ h', Tr G Z Gd pc' L st h' (o h')) : Tr G Z Gd pc L (.long v :: rf_ G x :: st) h ((sL h x c j v).bind o) := by
  subst hp
  intro r hr hg
  obtain ⟨h', h1, h2⟩ := bind_some_of hr
  obtain ⟨a, rfl, h3, rfl⟩ := sL_some h1
  have K := k _ r h2 hg
  exact ⟨K.1, fun X kx H locs ls a1 a2 a3 a4 a5 => have C := C X kx; wp_ (h' := ph_wL h a j v) C hd kc hj hl (Or.inl hf) (by rw [hk]; rfl) (by rw [hk]; rfl) h3 a3 a4 (fun _ => rfl) (fun _ => rfl) rfl (fun _ _ => rfl) wL_Lb (fun _ _ => rfl) (by rw [hk]; simp [fv_, wL_L]) (fun i e => fv_wL e) (fun H' locs' b1 b2 => K.2 X kx H' locs' ls a1 a2 b1 b2 a5)⟩
theorem tr_sLF {T : Type} {G : gv_t} {Z : zx_t} {Gd : T → Prop} {cc : ByteArray} {own : String} {nL : Nat} {ret : Option FieldType} {pc : Nat} {L : lo_t} {st : List Value} {h : ph_t} {c N idx : Nat} {Cn : String} {Tb : u_T} {ty : Nat → FieldType} {x : Option Nat} {v : Int64} {o : ph_t → Option T} (C : Cz G Z cc own nL ret) (pc' : Nat) (hp : pc + 3 = pc') (hd : decode cc pc = .ok (.putfield idx, 3)) (kc : kc_ G c Cn Tb N ty) (j : Nat) (hj : j < N) (hk : ty j = .long) (hf : (Tb j).2.2.2 = true) (hin : ∀ X, zx_k Z X → (fx_h X).name = "<init>") (hdc : (Tb j).1 = own) (hl : Cond.fieldLink own idx (Tb j).1 (Tb j).2.1 (Tb j).2.2.1 ∈ lw_all)
    (k : ∀ h', Tr G Z Gd pc' L st h' (o h')) : Tr G Z Gd pc L (.long v :: rf_ G x :: st) h ((sL h x c j v).bind o) := by
  subst hp
  intro r hr hg
  obtain ⟨h', h1, h2⟩ := bind_some_of hr
  obtain ⟨a, rfl, h3, rfl⟩ := sL_some h1
  have K := k _ r h2 hg
  exact ⟨K.1, fun X kx H locs ls a1 a2 a3 a4 a5 => have C := C X kx; wp_ (h' := ph_wL h a j v) C hd kc hj (Or.inl hl) (Or.inr ⟨hf, hin X kx, hdc, hl⟩) (by rw [hk]; rfl) (by rw [hk]; rfl) h3 a3 a4 (fun _ => rfl) (fun _ => rfl) rfl (fun _ _ => rfl) wL_Lb (fun _ _ => rfl) (by rw [hk]; simp [fv_, wL_L]) (fun i e => fv_wL e) (fun H' locs' b1 b2 => K.2 X kx H' locs' ls a1 a2 b1 b2 a5)⟩
theorem tr_sR {T : Type} {G : gv_t} {Z : zx_t} {Gd : T → Prop} {cc : ByteArray} {own : String} {nL : Nat} {ret : Option FieldType} {pc : Nat} {L : lo_t} {st : List Value} {h : ph_t} {c N idx : Nat} {Cn : String} {Tb : u_T} {ty : Nat → FieldType} {x : Option Nat} {v : Option Nat} {o : ph_t → Option T} (C : Cz G Z cc own nL ret) (pc' : Nat) (hp : pc + 3 = pc') (hd : decode cc pc = .ok (.putfield idx, 3)) (kc : kc_ G c Cn Tb N ty) (j : Nat) (hj : j < N) (hk : fk_ (ty j) = 2) (hf : (Tb j).2.2.2 = false) (hl : fl_ own idx (Tb j).1 (Tb j).2.1 (Tb j).2.2.1)
    (k : ∀ h', Tr G Z Gd pc' L st h' (o h')) : Tr G Z Gd pc L (rf_ G v :: rf_ G x :: st) h ((sR h x c j v).bind o) := by
  subst hp
  intro r hr hg
  obtain ⟨h', h1, h2⟩ := bind_some_of hr
  obtain ⟨a, rfl, h3, rfl⟩ := sR_some h1
  have K := k _ r h2 hg
  exact ⟨K.1, fun X kx H locs ls a1 a2 a3 a4 a5 => have C := C X kx; wp_ (h' := ph_wR h a j v) C hd kc hj hl (Or.inl hf) (rf_fits_o hk).2 (rf_fits_o hk).1 h3 a3 a4 (fun _ => rfl) (fun _ => rfl) rfl (fun _ _ => rfl) (fun _ _ => rfl) wR_Rb (by rw [fv_2 hk, wR_R]; simp) (fun i e => fv_wR e) (fun H' locs' b1 b2 => K.2 X kx H' locs' ls a1 a2 b1 b2 a5)⟩
theorem tr_sRF {T : Type} {G : gv_t} {Z : zx_t} {Gd : T → Prop} {cc : ByteArray} {own : String} {nL : Nat} {ret : Option FieldType} {pc : Nat} {L : lo_t} {st : List Value} {h : ph_t} {c N idx : Nat} {Cn : String} {Tb : u_T} {ty : Nat → FieldType} {x : Option Nat} {v : Option Nat} {o : ph_t → Option T} (C : Cz G Z cc own nL ret) (pc' : Nat) (hp : pc + 3 = pc') (hd : decode cc pc = .ok (.putfield idx, 3)) (kc : kc_ G c Cn Tb N ty) (j : Nat) (hj : j < N) (hk : fk_ (ty j) = 2) (hf : (Tb j).2.2.2 = true) (hin : ∀ X, zx_k Z X → (fx_h X).name = "<init>") (hdc : (Tb j).1 = own) (hl : Cond.fieldLink own idx (Tb j).1 (Tb j).2.1 (Tb j).2.2.1 ∈ lw_all)
    (k : ∀ h', Tr G Z Gd pc' L st h' (o h')) : Tr G Z Gd pc L (rf_ G v :: rf_ G x :: st) h ((sR h x c j v).bind o) := by
  subst hp
  intro r hr hg
  obtain ⟨h', h1, h2⟩ := bind_some_of hr
  obtain ⟨a, rfl, h3, rfl⟩ := sR_some h1
  have K := k _ r h2 hg
  exact ⟨K.1, fun X kx H locs ls a1 a2 a3 a4 a5 => have C := C X kx; wp_ (h' := ph_wR h a j v) C hd kc hj (Or.inl hl) (Or.inr ⟨hf, hin X kx, hdc, hl⟩) (rf_fits_o hk).2 (rf_fits_o hk).1 h3 a3 a4 (fun _ => rfl) (fun _ => rfl) rfl (fun _ _ => rfl) (fun _ _ => rfl) wR_Rb (by rw [fv_2 hk, wR_R]; simp) (fun i e => fv_wR e) (fun H' locs' b1 b2 => K.2 X kx H' locs' ls a1 a2 b1 b2 a5)⟩
theorem wx_ {G : gv_t} {h : ph_t} {H : Heap} {a t : Nat} (P : PR G h H) (ha : ph_T h a = t) (h1 : 20 ≤ t) (h2 : t < 28) : 64 ≤ a ∧ H[gv_B G + (a - 64)]? = some (vp_cell (gv_a G t) (va_h G h a)) := by
  have hne : ph_T h a ≠ 99 := by omega
  have h32 := (P.2.2.1 a hne).1
  refine ⟨h32, ?_⟩
  have := (P.2.2.2 a h32).2 (by omega) (by omega)
  rw [ha] at this
  exact this
theorem va_hi {G : gv_t} {h : ph_t} {a : Nat} (h1 : ph_T h a = 20 ∨ ph_T h a = 22 ∨ ph_T h a = 23) : va_h G h a = (ph_N h a, .inl (ph_I h a)) := by
  unfold va_h
  rw [if_neg (by omega), if_pos (by omega)]
theorem va_hl {G : gv_t} {h : ph_t} {a : Nat} (h1 : ph_T h a = 21) : va_h G h a = (ph_N h a, .inr (.inl (ph_L h a))) := by
  unfold va_h
  rw [if_pos h1]
theorem va_hr {G : gv_t} {h : ph_t} {a : Nat} (h1 : 24 ≤ ph_T h a) : va_h G h a = (ph_N h a, .inr (.inr (.inr (.inr (fun j => rm_ G (ph_R h a j)))))) := by
  unfold va_h
  rw [if_neg (by omega), if_neg (by omega)]
theorem ix_in {i : Int32} {n : Nat} (h1 : 0 ≤ i.toInt) (h2 : i.toInt < (n : Int)) : vp_in i n ∧ i.toNatClampNeg < n := by
  have h3 : vp_in i n := vp_in_iff.mpr ⟨h1, h2⟩
  exact ⟨h3, Nat.not_le.mp fun q => h3 (Or.inr q)⟩
theorem xI_some {h : ph_t} {x : Option Nat} {t : Nat} {i v : Int32} (e : xI h x t i = some v) : ∃ a, x = some a ∧ ph_T h a = t ∧ (0 ≤ i.toInt ∧ i.toInt < (ph_N h a : Int)) ∧ v = ph_I h a i.toNatClampNeg := by
  unfold xI at e
  cases x with
  | none => cases e
  | some a =>
    simp only [Option.bind_some] at e
    split at e
    · rename_i q
      exact ⟨a, rfl, q.1, q.2, (Option.some.inj e).symm⟩
    · cases e
theorem xL_some {h : ph_t} {x : Option Nat} {t : Nat} {i : Int32} {v : Int64} (e : xL h x t i = some v) : ∃ a, x = some a ∧ ph_T h a = t ∧ (0 ≤ i.toInt ∧ i.toInt < (ph_N h a : Int)) ∧ v = ph_L h a i.toNatClampNeg := by
  unfold xL at e
  cases x with
  | none => cases e
  | some a =>
    simp only [Option.bind_some] at e
    split at e
    · rename_i q
      exact ⟨a, rfl, q.1, q.2, (Option.some.inj e).symm⟩
    · cases e
theorem xR_some {h : ph_t} {x : Option Nat} {t : Nat} {i : Int32} {v : Option Nat} (e : xR h x t i = some v) : ∃ a, x = some a ∧ ph_T h a = t ∧ (0 ≤ i.toInt ∧ i.toInt < (ph_N h a : Int)) ∧ v = ph_R h a i.toNatClampNeg := by
  unfold xR at e
  cases x with
  | none => cases e
  | some a =>
    simp only [Option.bind_some] at e
    split at e
    · rename_i q
      exact ⟨a, rfl, q.1, q.2, (Option.some.inj e).symm⟩
    · cases e
theorem yI_some {h h' : ph_t} {x : Option Nat} {t : Nat} {i v : Int32} (e : yI h x t i v = some h') : ∃ a, x = some a ∧ ph_T h a = t ∧ (0 ≤ i.toInt ∧ i.toInt < (ph_N h a : Int)) ∧ h' = ph_wI h a i.toNatClampNeg v := by
  unfold yI at e
  cases x with
  | none => cases e
  | some a =>
    simp only [Option.bind_some] at e
    split at e
    · rename_i q
      exact ⟨a, rfl, q.1, q.2, (Option.some.inj e).symm⟩
    · cases e
theorem yL_some {h h' : ph_t} {x : Option Nat} {t : Nat} {i : Int32} {v : Int64} (e : yL h x t i v = some h') : ∃ a, x = some a ∧ ph_T h a = t ∧ (0 ≤ i.toInt ∧ i.toInt < (ph_N h a : Int)) ∧ h' = ph_wL h a i.toNatClampNeg v := by
  unfold yL at e
  cases x with
  | none => cases e
  | some a =>
    simp only [Option.bind_some] at e
    split at e
    · rename_i q
      exact ⟨a, rfl, q.1, q.2, (Option.some.inj e).symm⟩
    · cases e
theorem yR_some {h h' : ph_t} {x v : Option Nat} {t c : Nat} {i : Int32} (e : yR h x t i v c = some h') : ∃ a w, x = some a ∧ v = some w ∧ ph_T h a = t ∧ (0 ≤ i.toInt ∧ i.toInt < (ph_N h a : Int)) ∧ (ph_T h w = c ∨ (c = 29 ∧ w < 28)) ∧ h' = ph_wR h a i.toNatClampNeg (some w) := by
  unfold yR at e
  cases x with
  | none => cases e
  | some a =>
    cases v with
    | none => cases e
    | some w =>
      simp only [Option.bind_some] at e
      split at e
      · rename_i q
        exact ⟨a, w, rfl, rfl, q.1.1, q.1.2, q.2, (Option.some.inj e).symm⟩
      · cases e
theorem nA_some {h : ph_t} {x : Option Nat} {v : Int32} (e : nA h x = some v) : ∃ a, x = some a ∧ 20 ≤ ph_T h a ∧ ph_T h a < 28 ∧ v = Int32.ofNat (ph_N h a) := by
  unfold nA at e
  cases x with
  | none => cases e
  | some a =>
    simp only [Option.bind_some] at e
    split at e
    · rename_i q
      exact ⟨a, rfl, q.1, q.2, (Option.some.inj e).symm⟩
    · cases e
theorem tr_iald {T : Type} {G : gv_t} {Z : zx_t} {Gd : T → Prop} {cc : ByteArray} {own : String} {nL : Nat} {ret : Option FieldType} {pc : Nat} {L : lo_t} {st : List Value} {h : ph_t} {x : Option Nat} {i : Int32} {o : Int32 → Option T} (C : Cz G Z cc own nL ret) (pc' : Nat) (hp : pc + 1 = pc') (hd : decode cc pc = .ok (.iaload, 1))
    (k : ∀ v, Tr G Z Gd pc' L (.int v :: st) h (o v)) : Tr G Z Gd pc L (.int i :: rf_ G x :: st) h ((xI h x 20 i).bind o) := by
  subst hp
  intro r hr hg
  obtain ⟨v, h1, h2⟩ := bind_some_of hr
  obtain ⟨a, rfl, h3, h4, h5⟩ := xI_some h1
  have K := k v r h2 hg
  refine ⟨K.1, fun X kx H locs ls a1 a2 a3 a4 a5 => ?_⟩
  have C := C X kx
  obtain ⟨g1, g2⟩ := wx_ a3 h3 (by decide) (by decide)
  rw [va_hi (Or.inl h3)] at g2
  rw [rf_some g1]
  obtain ⟨i1, i2⟩ := ix_in h4.1 h4.2
  refine W.iald (v := .int (ph_I h a i.toNatClampNeg)) C.1 C.2.1 g2 ((cx_ar C (t := 20) (by decide) (by decide)).1 (ph_N h a) (fun j => .int (ph_I h a j))) (fun q => by cases q) (by show ¬ (i < 0 ∨ (arrV _ _ _).slots.size ≤ _); rw [arrV_size]; exact i1) (by show (arrV _ _ _).slots[_]? = _; rw [arrV_read _ _ i2]) rfl rfl hd ?_
  have K2 := K.2 X kx H locs ls a1 a2 a3 a4 a5
  rw [h5] at K2
  exact K2
theorem tr_bald {T : Type} {G : gv_t} {Z : zx_t} {Gd : T → Prop} {cc : ByteArray} {own : String} {nL : Nat} {ret : Option FieldType} {pc : Nat} {L : lo_t} {st : List Value} {h : ph_t} {x : Option Nat} {i : Int32} {o : Int32 → Option T} (C : Cz G Z cc own nL ret) (pc' : Nat) (hp : pc + 1 = pc') (hd : decode cc pc = .ok (.baload, 1))
    (k : ∀ v, Tr G Z Gd pc' L (.int v :: st) h (o v)) : Tr G Z Gd pc L (.int i :: rf_ G x :: st) h ((xI h x 22 i).bind o) := by
  subst hp
  intro r hr hg
  obtain ⟨v, h1, h2⟩ := bind_some_of hr
  obtain ⟨a, rfl, h3, h4, h5⟩ := xI_some h1
  have K := k v r h2 hg
  refine ⟨K.1, fun X kx H locs ls a1 a2 a3 a4 a5 => ?_⟩
  have C := C X kx
  obtain ⟨g1, g2⟩ := wx_ a3 h3 (by decide) (by decide)
  rw [va_hi (Or.inr (Or.inl h3))] at g2
  rw [rf_some g1]
  obtain ⟨i1, i2⟩ := ix_in h4.1 h4.2
  refine W.bald (v := .int (ph_I h a i.toNatClampNeg)) C.1 C.2.1 g2 ((cx_ar C (t := 22) (by decide) (by decide)).1 (ph_N h a) (fun j => .int (ph_I h a j))) (fun q => by cases q) (by show ¬ (i < 0 ∨ (arrV _ _ _).slots.size ≤ _); rw [arrV_size]; exact i1) (by show (arrV _ _ _).slots[_]? = _; rw [arrV_read _ _ i2]) rfl rfl hd ?_
  have K2 := K.2 X kx H locs ls a1 a2 a3 a4 a5
  rw [h5] at K2
  exact K2
theorem tr_zald {T : Type} {G : gv_t} {Z : zx_t} {Gd : T → Prop} {cc : ByteArray} {own : String} {nL : Nat} {ret : Option FieldType} {pc : Nat} {L : lo_t} {st : List Value} {h : ph_t} {x : Option Nat} {i : Int32} {o : Int32 → Option T} (C : Cz G Z cc own nL ret) (pc' : Nat) (hp : pc + 1 = pc') (hd : decode cc pc = .ok (.baload, 1))
    (k : ∀ v, Tr G Z Gd pc' L (.int v :: st) h (o v)) : Tr G Z Gd pc L (.int i :: rf_ G x :: st) h ((xI h x 23 i).bind o) := by
  subst hp
  intro r hr hg
  obtain ⟨v, h1, h2⟩ := bind_some_of hr
  obtain ⟨a, rfl, h3, h4, h5⟩ := xI_some h1
  have K := k v r h2 hg
  refine ⟨K.1, fun X kx H locs ls a1 a2 a3 a4 a5 => ?_⟩
  have C := C X kx
  obtain ⟨g1, g2⟩ := wx_ a3 h3 (by decide) (by decide)
  rw [va_hi (Or.inr (Or.inr h3))] at g2
  rw [rf_some g1]
  obtain ⟨i1, i2⟩ := ix_in h4.1 h4.2
  refine W.zald (v := .int (ph_I h a i.toNatClampNeg)) C.1 C.2.1 g2 ((cx_ar C (t := 23) (by decide) (by decide)).1 (ph_N h a) (fun j => .int (ph_I h a j))) (fun q => by cases q) (by show ¬ (i < 0 ∨ (arrV _ _ _).slots.size ≤ _); rw [arrV_size]; exact i1) (by show (arrV _ _ _).slots[_]? = _; rw [arrV_read _ _ i2]) rfl rfl hd ?_
  have K2 := K.2 X kx H locs ls a1 a2 a3 a4 a5
  rw [h5] at K2
  exact K2
theorem tr_lald {T : Type} {G : gv_t} {Z : zx_t} {Gd : T → Prop} {cc : ByteArray} {own : String} {nL : Nat} {ret : Option FieldType} {pc : Nat} {L : lo_t} {st : List Value} {h : ph_t} {x : Option Nat} {i : Int32} {o : Int64 → Option T} (C : Cz G Z cc own nL ret) (pc' : Nat) (hp : pc + 1 = pc') (hd : decode cc pc = .ok (.laload, 1))
    (k : ∀ v, Tr G Z Gd pc' L (.long v :: st) h (o v)) : Tr G Z Gd pc L (.int i :: rf_ G x :: st) h ((xL h x 21 i).bind o) := by
  subst hp
  intro r hr hg
  obtain ⟨v, h1, h2⟩ := bind_some_of hr
  obtain ⟨a, rfl, h3, h4, h5⟩ := xL_some h1
  have K := k v r h2 hg
  refine ⟨K.1, fun X kx H locs ls a1 a2 a3 a4 a5 => ?_⟩
  have C := C X kx
  obtain ⟨g1, g2⟩ := wx_ a3 h3 (by decide) (by decide)
  rw [va_hl h3] at g2
  rw [rf_some g1]
  obtain ⟨i1, i2⟩ := ix_in h4.1 h4.2
  refine W.lald (v := .long (ph_L h a i.toNatClampNeg)) C.1 C.2.1 g2 ((cx_ar C (t := 21) (by decide) (by decide)).1 (ph_N h a) (fun j => .long (ph_L h a j))) (fun q => by cases q) (by show ¬ (i < 0 ∨ (arrV _ _ _).slots.size ≤ _); rw [arrV_size]; exact i1) (by show (arrV _ _ _).slots[_]? = _; rw [arrV_read _ _ i2]) rfl rfl hd ?_
  have K2 := K.2 X kx H locs ls a1 a2 a3 a4 a5
  rw [h5] at K2
  exact K2
theorem tr_aald {T : Type} {G : gv_t} {Z : zx_t} {Gd : T → Prop} {cc : ByteArray} {own : String} {nL : Nat} {ret : Option FieldType} {pc : Nat} {L : lo_t} {st : List Value} {h : ph_t} {x : Option Nat} {t : Nat} {i : Int32} {o : Option Nat → Option T} (C : Cz G Z cc own nL ret) (pc' : Nat) (hp : pc + 1 = pc') (hd : decode cc pc = .ok (.aaload, 1)) (t1 : 24 ≤ t) (t2 : t < 28)
    (k : ∀ v, Tr G Z Gd pc' L (rf_ G v :: st) h (o v)) : Tr G Z Gd pc L (.int i :: rf_ G x :: st) h ((xR h x t i).bind o) := by
  subst hp
  intro r hr hg
  obtain ⟨v, h1, h2⟩ := bind_some_of hr
  obtain ⟨a, rfl, h3, h4, h5⟩ := xR_some h1
  have K := k v r h2 hg
  refine ⟨K.1, fun X kx H locs ls a1 a2 a3 a4 a5 => ?_⟩
  have C := C X kx
  obtain ⟨g1, g2⟩ := wx_ a3 h3 (by omega) (by omega)
  rw [va_hr (by omega)] at g2
  rw [rf_some g1]
  obtain ⟨i1, i2⟩ := ix_in h4.1 h4.2
  refine W.aald (v := rf_ G (ph_R h a i.toNatClampNeg)) (ty := at_ t) C.1 C.2.1 g2 ((cx_ar C (t := t) (by omega) t2).1 (ph_N h a) (fun j => va_rf (rm_ G (ph_R h a j)))) ?_ (fun q => by cases q) (by show ¬ (i < 0 ∨ (arrV _ _ _).slots.size ≤ _); rw [arrV_size]; exact i1) (by show (arrV _ _ _).slots[_]? = _; rw [arrV_read _ _ i2]; rfl) rfl rfl hd ?_
  · rcases (show t = 24 ∨ t = 25 ∨ t = 26 ∨ t = 27 by omega) with rfl | rfl | rfl | rfl <;> rfl
  · have K2 := K.2 X kx H locs ls a1 a2 a3 a4 a5
    rw [h5] at K2
    exact K2
theorem tr_alen {T : Type} {G : gv_t} {Z : zx_t} {Gd : T → Prop} {cc : ByteArray} {own : String} {nL : Nat} {ret : Option FieldType} {pc : Nat} {L : lo_t} {st : List Value} {h : ph_t} {x : Option Nat} {o : Int32 → Option T} (C : Cz G Z cc own nL ret) (pc' : Nat) (hp : pc + 1 = pc') (hd : decode cc pc = .ok (.arraylength, 1))
    (k : ∀ v, Tr G Z Gd pc' L (.int v :: st) h (o v)) : Tr G Z Gd pc L (rf_ G x :: st) h ((nA h x).bind o) := by
  subst hp
  intro r hr hg
  obtain ⟨v, h1, h2⟩ := bind_some_of hr
  obtain ⟨a, rfl, h3, h4, h5⟩ := nA_some h1
  have K := k v r h2 hg
  refine ⟨K.1, fun X kx H locs ls a1 a2 a3 a4 a5 => ?_⟩
  have C := C X kx
  obtain ⟨g1, g2⟩ := wx_ a3 rfl h3 h4
  rw [rf_some g1]
  have K2 := K.2 X kx H locs ls a1 a2 a3 a4 a5
  rw [h5] at K2
  have hA := (cx_ar C h3 h4).1
  by_cases q : ph_T h a = 21
  · rw [va_hl q] at g2
    exact W.alen C.1 C.2.1 g2 (hA (ph_N h a) (fun j => .long (ph_L h a j))) (by rw [vp_cell_l, arrV_size] <;> rfl) rfl rfl hd K2
  · by_cases q2 : ph_T h a < 24
    · rw [va_hi (by omega)] at g2
      exact W.alen C.1 C.2.1 g2 (hA (ph_N h a) (fun j => .int (ph_I h a j))) (by rw [vp_cell_i, arrV_size] <;> rfl) rfl rfl hd K2
    · rw [va_hr (by omega)] at g2
      exact W.alen C.1 C.2.1 g2 (hA (ph_N h a) (fun j => va_rf (rm_ G (ph_R h a j)))) (by rw [vp_cell_q, arrV_size] <;> rfl) rfl rfl hd K2
theorem tr_iast {T : Type} {G : gv_t} {Z : zx_t} {Gd : T → Prop} {cc : ByteArray} {own : String} {nL : Nat} {ret : Option FieldType} {pc : Nat} {L : lo_t} {st : List Value} {h : ph_t} {x : Option Nat} {i : Int32} {v : Int32} {o : ph_t → Option T} (C : Cz G Z cc own nL ret) (pc' : Nat) (hp : pc + 1 = pc') (hd : decode cc pc = .ok (.iastore, 1))
    (k : ∀ h', Tr G Z Gd pc' L st h' (o h')) : Tr G Z Gd pc L (.int v :: .int i :: rf_ G x :: st) h ((yI h x 20 i v).bind o) := by
  subst hp
  intro r hr hg
  obtain ⟨h', h1, h2⟩ := bind_some_of hr
  obtain ⟨a, rfl, h3, h4, rfl⟩ := yI_some h1
  have K := k _ r h2 hg
  refine ⟨K.1, fun X kx H locs ls a1 a2 a3 a4 a5 => ?_⟩
  have C := C X kx
  obtain ⟨g1, g2⟩ := wx_ a3 h3 (by decide) (by decide)
  rw [va_hi (Or.inl h3)] at g2
  rw [rf_some g1]
  obtain ⟨i1, i2⟩ := ix_in h4.1 h4.2
  refine W.iast C.1 C.2.1 g2 ((cx_ar C (t := 20) (by decide) (by decide)).1 (ph_N h a) (fun j => .int (ph_I h a j))) (fun q => by cases q) (by show ¬ (i < 0 ∨ (arrV _ _ _).slots.size ≤ _); rw [arrV_size]; exact i1) rfl rfl hd fun H1 e z oq => ?_
  refine K.2 X kx H1 _ ls a1 a2 (a3.put g1 (fun _ => rfl) (fun _ => rfl) rfl wI_Ib (fun _ _ => rfl) (fun _ _ => rfl) z oq ⟨fun q => ?_, fun _ _ => ?_⟩) (a4.put z oq (Nat.le_add_right _ _)) a5
  · rw [wI_T, h3] at q
    omega
  · have h3' : ph_T (ph_wI h a i.toNatClampNeg v) a = 20 := h3
    rw [va_hi (Or.inl h3'), h3', e]
    rw [vp_cell_i, vp_cell_i, arrV_store]
    show some (arrV _ (ph_N h a) _) = some (arrV _ (ph_N h a) _)
    congr 2
    funext q
    by_cases hq : q = i.toNatClampNeg
    · subst hq
      simp [updV, wI_I, narrow, ib_]
    · simp [updV, wI_I, hq]
theorem tr_bast {T : Type} {G : gv_t} {Z : zx_t} {Gd : T → Prop} {cc : ByteArray} {own : String} {nL : Nat} {ret : Option FieldType} {pc : Nat} {L : lo_t} {st : List Value} {h : ph_t} {x : Option Nat} {i : Int32} {v : Int32} {o : ph_t → Option T} (C : Cz G Z cc own nL ret) (pc' : Nat) (hp : pc + 1 = pc') (hd : decode cc pc = .ok (.bastore, 1))
    (k : ∀ h', Tr G Z Gd pc' L st h' (o h')) : Tr G Z Gd pc L (.int v :: .int i :: rf_ G x :: st) h ((yI h x 22 i (ib_ v)).bind o) := by
  subst hp
  intro r hr hg
  obtain ⟨h', h1, h2⟩ := bind_some_of hr
  obtain ⟨a, rfl, h3, h4, rfl⟩ := yI_some h1
  have K := k _ r h2 hg
  refine ⟨K.1, fun X kx H locs ls a1 a2 a3 a4 a5 => ?_⟩
  have C := C X kx
  obtain ⟨g1, g2⟩ := wx_ a3 h3 (by decide) (by decide)
  rw [va_hi (Or.inr (Or.inl h3))] at g2
  rw [rf_some g1]
  obtain ⟨i1, i2⟩ := ix_in h4.1 h4.2
  refine W.bast C.1 C.2.1 g2 ((cx_ar C (t := 22) (by decide) (by decide)).1 (ph_N h a) (fun j => .int (ph_I h a j))) (fun q => by cases q) (by show ¬ (i < 0 ∨ (arrV _ _ _).slots.size ≤ _); rw [arrV_size]; exact i1) rfl rfl hd fun H1 e z oq => ?_
  refine K.2 X kx H1 _ ls a1 a2 (a3.put g1 (fun _ => rfl) (fun _ => rfl) rfl wI_Ib (fun _ _ => rfl) (fun _ _ => rfl) z oq ⟨fun q => ?_, fun _ _ => ?_⟩) (a4.put z oq (Nat.le_add_right _ _)) a5
  · rw [wI_T, h3] at q
    omega
  · have h3' : ph_T (ph_wI h a i.toNatClampNeg (ib_ v)) a = 22 := h3
    rw [va_hi (Or.inr (Or.inl h3')), h3', e]
    rw [vp_cell_i, vp_cell_i, arrV_store]
    show some (arrV _ (ph_N h a) _) = some (arrV _ (ph_N h a) _)
    congr 2
    funext q
    by_cases hq : q = i.toNatClampNeg
    · subst hq
      simp [updV, wI_I, narrow, ib_]
    · simp [updV, wI_I, hq]
theorem tr_zast {T : Type} {G : gv_t} {Z : zx_t} {Gd : T → Prop} {cc : ByteArray} {own : String} {nL : Nat} {ret : Option FieldType} {pc : Nat} {L : lo_t} {st : List Value} {h : ph_t} {x : Option Nat} {i : Int32} {v : Int32} {o : ph_t → Option T} (C : Cz G Z cc own nL ret) (pc' : Nat) (hp : pc + 1 = pc') (hd : decode cc pc = .ok (.bastore, 1))
    (k : ∀ h', Tr G Z Gd pc' L st h' (o h')) : Tr G Z Gd pc L (.int v :: .int i :: rf_ G x :: st) h ((yI h x 23 i (v &&& 1)).bind o) := by
  subst hp
  intro r hr hg
  obtain ⟨h', h1, h2⟩ := bind_some_of hr
  obtain ⟨a, rfl, h3, h4, rfl⟩ := yI_some h1
  have K := k _ r h2 hg
  refine ⟨K.1, fun X kx H locs ls a1 a2 a3 a4 a5 => ?_⟩
  have C := C X kx
  obtain ⟨g1, g2⟩ := wx_ a3 h3 (by decide) (by decide)
  rw [va_hi (Or.inr (Or.inr h3))] at g2
  rw [rf_some g1]
  obtain ⟨i1, i2⟩ := ix_in h4.1 h4.2
  refine W.zast C.1 C.2.1 g2 ((cx_ar C (t := 23) (by decide) (by decide)).1 (ph_N h a) (fun j => .int (ph_I h a j))) (fun q => by cases q) (by show ¬ (i < 0 ∨ (arrV _ _ _).slots.size ≤ _); rw [arrV_size]; exact i1) rfl rfl hd fun H1 e z oq => ?_
  refine K.2 X kx H1 _ ls a1 a2 (a3.put g1 (fun _ => rfl) (fun _ => rfl) rfl wI_Ib (fun _ _ => rfl) (fun _ _ => rfl) z oq ⟨fun q => ?_, fun _ _ => ?_⟩) (a4.put z oq (Nat.le_add_right _ _)) a5
  · rw [wI_T, h3] at q
    omega
  · have h3' : ph_T (ph_wI h a i.toNatClampNeg (v &&& 1)) a = 23 := h3
    rw [va_hi (Or.inr (Or.inr h3')), h3', e]
    rw [vp_cell_i, vp_cell_i, arrV_store]
    show some (arrV _ (ph_N h a) _) = some (arrV _ (ph_N h a) _)
    congr 2
    funext q
    by_cases hq : q = i.toNatClampNeg
    · subst hq
      simp [updV, wI_I, narrow, ib_]
    · simp [updV, wI_I, hq]
theorem tr_last {T : Type} {G : gv_t} {Z : zx_t} {Gd : T → Prop} {cc : ByteArray} {own : String} {nL : Nat} {ret : Option FieldType} {pc : Nat} {L : lo_t} {st : List Value} {h : ph_t} {x : Option Nat} {i : Int32} {v : Int64} {o : ph_t → Option T} (C : Cz G Z cc own nL ret) (pc' : Nat) (hp : pc + 1 = pc') (hd : decode cc pc = .ok (.lastore, 1))
    (k : ∀ h', Tr G Z Gd pc' L st h' (o h')) : Tr G Z Gd pc L (.long v :: .int i :: rf_ G x :: st) h ((yL h x 21 i v).bind o) := by
  subst hp
  intro r hr hg
  obtain ⟨h', h1, h2⟩ := bind_some_of hr
  obtain ⟨a, rfl, h3, h4, rfl⟩ := yL_some h1
  have K := k _ r h2 hg
  refine ⟨K.1, fun X kx H locs ls a1 a2 a3 a4 a5 => ?_⟩
  have C := C X kx
  obtain ⟨g1, g2⟩ := wx_ a3 h3 (by decide) (by decide)
  rw [va_hl h3] at g2
  rw [rf_some g1]
  obtain ⟨i1, i2⟩ := ix_in h4.1 h4.2
  refine W.last C.1 C.2.1 g2 ((cx_ar C (t := 21) (by decide) (by decide)).1 (ph_N h a) (fun j => .long (ph_L h a j))) (fun q => by cases q) (by show ¬ (i < 0 ∨ (arrV _ _ _).slots.size ≤ _); rw [arrV_size]; exact i1) rfl rfl hd fun H1 e z oq => ?_
  refine K.2 X kx H1 _ ls a1 a2 (a3.put g1 (fun _ => rfl) (fun _ => rfl) rfl (fun _ _ => rfl) wL_Lb (fun _ _ => rfl) z oq ⟨fun q => ?_, fun _ _ => ?_⟩) (a4.put z oq (Nat.le_add_right _ _)) a5
  · rw [wL_T, h3] at q
    omega
  · have h3' : ph_T (ph_wL h a i.toNatClampNeg v) a = 21 := h3
    rw [va_hl h3', h3', e]
    rw [vp_cell_l, vp_cell_l, arrV_store]
    show some (arrV _ (ph_N h a) _) = some (arrV _ (ph_N h a) _)
    congr 2
    funext q
    by_cases hq : q = i.toNatClampNeg
    · subst hq
      simp [updV, wL_L, narrow, ib_]
    · simp [updV, wL_L, hq]
theorem tr_aast {T : Type} {G : gv_t} {Z : zx_t} {Gd : T → Prop} {cc : ByteArray} {own : String} {nL : Nat} {ret : Option FieldType} {pc : Nat} {L : lo_t} {st : List Value} {h : ph_t} {c N : Nat} {Cn : String} {Tb : u_T} {ty : Nat → FieldType} {x v : Option Nat} {i : Int32} {t : Nat} {o : ph_t → Option T} (C : Cz G Z cc own nL ret) (pc' : Nat) (hp : pc + 1 = pc') (hd : decode cc pc = .ok (.aastore, 1)) (kc : kc_ G c Cn Tb N ty) (t1 : 24 ≤ t) (t2 : t < 28) (ht : at_ t = .object Cn)
    (k : ∀ h', Tr G Z Gd pc' L st h' (o h')) : Tr G Z Gd pc L (rf_ G v :: .int i :: rf_ G x :: st) h ((yR h x t i v c).bind o) := by
  subst hp
  intro r hr hg
  obtain ⟨h', h1, h2⟩ := bind_some_of hr
  obtain ⟨a, w, rfl, rfl, h3, h4, h6, rfl⟩ := yR_some h1
  have K := k _ r h2 hg
  refine ⟨K.1, fun X kx H locs ls a1 a2 a3 a4 a5 => ?_⟩
  have C := C X kx
  obtain ⟨g1, g2⟩ := wx_ a3 h3 (by omega) (by omega)
  rw [va_hr (by omega)] at g2
  obtain ⟨i1, i2⟩ := ix_in h4.1 h4.2
  have h0 : ¬ i < 0 := fun q => i1 (Or.inl q)
  have hw : ph_T h w = c := by
    rcases h6 with h6 | ⟨h6, -⟩
    · exact h6
    · have := kc.1
      omega
  have hwn : ph_T h w ≠ 99 := by have := kc.1; omega
  have h32 := (a3.2.2.1 w hwn).1
  have hce := (a3.2.2.2 w h32).1 (by rw [hw]; exact kc.1)
  rw [hw] at hce
  obtain ⟨rr, r1, cellV, q1, q2, q3, q4⟩ := hce
  have hr9 : rr = (Cn, Tb, N) := Option.some.inj (r1.symm.trans kc.2.1)
  subst hr9
  have hcls := (cx_kn C kc.2.1).2
  have hRA := (cx_ar C (t := t) (by omega) t2).2
  rw [ht] at hRA
  obtain ⟨kA, comp, k1, k2, k3, -⟩ := hRA
  have hcomp : comp = (gv_D G).1 c := Option.some.inj (k3.symm.trans hcls.1)
  subst hcomp
  obtain ⟨kC, hkC, -⟩ := hcls.2
  rw [rf_some g1, rf_some h32]
  refine W.aast C.1 C.2.1 g2 (fun q h => by cases h) (fun h => by cases h) k1 k2 rfl hkC ⟨h0, by show _ < (arrV _ _ _).slots.size; rw [arrV_size]; exact i2⟩ q1 (fun q h => by rw [q3] at h; cases h) (by rw [q2]; exact hkC) (by rw [q2]; exact va_assign hcls) rfl rfl hd fun H1 e z oq => ?_
  refine K.2 X kx H1 _ ls a1 a2 (a3.put g1 (fun _ => rfl) (fun _ => rfl) rfl (fun _ _ => rfl) (fun _ _ => rfl) wR_Rb z oq ⟨fun q => ?_, fun _ _ => ?_⟩) (a4.put z oq (Nat.le_add_right _ _)) a5
  · rw [wR_T, h3] at q
    omega
  · have h3' : ph_T (ph_wR h a i.toNatClampNeg (some w)) a = t := h3
    rw [va_hr (by omega), h3', e]
    rw [vp_cell_q, vp_cell_q, arrV_store]
    show some (arrV _ (ph_N h a) _) = some (arrV _ (ph_N h a) _)
    congr 2
    funext q
    by_cases hq : q = i.toNatClampNeg
    · subst hq
      simp [updV, wR_R, rm_, Nat.not_lt.mpr h32, va_rf]
    · simp [updV, wR_R, hq]
