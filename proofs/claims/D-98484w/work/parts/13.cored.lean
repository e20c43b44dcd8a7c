/-! CORE D: fields, arrays, new cells -/
def kc_ (G : gv_t) (c : Nat) (Cn : String) (Tb : u_T) (N : Nat) (ty : Nat → FieldType) : Prop :=
  c < 20 ∧ (gv_c G)[c]? = some (Cn, Tb, N) ∧ (∀ j, gv_f G c j = ty j) ∧ (∀ w ∈ u_ws Cn Tb N, w ∈ lw_all) ∧ (∀ k, k < N → parseFieldDescriptor (Tb k).2.2.1 = some (ty k)) ∧ (∀ a, a < N → ∀ b, b < N → a ≠ b → (Tb a).2.1 ≠ (Tb b).2.1)
def fl_ (own : String) (idx : Nat) (ref n d : String) : Prop := Cond.fieldLink own idx ref n d ∈ lw_all ∨ ∃ host : String, Cond.fieldLinkNest own idx ref n d host ∈ lw_tbl
theorem cx_kn {G : gv_t} {Z : zx_t} {X : fx_t} {cc : ByteArray} {own : String} {nL : Nat} {ret : Option FieldType} (C : Cx G Z X cc own nL ret) {c : Nat} {q : vw_C} (h : (gv_c G)[c]? = some q) : u_Kn (fx_s X) q.1 q.2.1 q.2.2 ((gv_D G).1 c) ((gv_D G).2 c) := by
  obtain ⟨-, -, -, -, -, -, -, hW, -, g, -⟩ := C
  exact u_Kn_moved hW.alike (g.1 c q h)
theorem cx_ar {G : gv_t} {Z : zx_t} {X : fx_t} {cc : ByteArray} {own : String} {nL : Nat} {ret : Option FieldType} (C : Cx G Z X cc own nL ret) {t : Nat} (h1 : 20 ≤ t) (h2 : t < 28) : ArrOfT (fx_s X) (gv_a G t) (at_ t) ∧ va_RA (fx_s X) (gv_a G t) (at_ t) := by
  obtain ⟨-, -, -, -, -, -, -, hW, -, g, -⟩ := C
  exact ⟨arrOfT_moved hW.alike (g.2.1 t h1 h2).1, (g.2.1 t h1 h2).2.moved hW.alike⟩
theorem cx_nw {G : gv_t} {Z : zx_t} {X : fx_t} {cc : ByteArray} {own : String} {nL : Nat} {ret : Option FieldType} (C : Cx G Z X cc own nL ret) {w : Cond} (h : w ∈ lw_tbl) (ho : w.onTables = true) : va_Nw w (gv_s G) ∧ (gv_s G).WarmedH (fx_s X).vm := by
  obtain ⟨-, -, -, -, -, -, -, hW, -, g, -⟩ := C
  obtain ⟨A, hA⟩ := g.2.2
  exact ⟨va_Nw.of ho (hA w h), hW⟩
theorem cx_ao {G : gv_t} {Z : zx_t} {X : fx_t} {cc : ByteArray} {own : String} {nL : Nat} {ret : Option FieldType} (C : Cx G Z X cc own nL ret) {Cn : String} (h : Cond.arrayOver (.object Cn) ∈ lw_tbl) : va_AO Cn (fx_s X) := by
  obtain ⟨-, -, -, -, -, -, -, hW, -, g, -⟩ := C
  obtain ⟨A, hA⟩ := g.2.2
  exact va_AO.moved hW.alike (va_AO.of (hA _ h))
theorem cx_w {G : gv_t} {Z : zx_t} {X : fx_t} {cc : ByteArray} {own : String} {nL : Nat} {ret : Option FieldType} (C : Cx G Z X cc own nL ret) {w : Cond} (h : w ∈ lw_all) : w.before (fx_a X) (fx_s X) = true := C.2.2.2.2.1 w h
theorem cx_B {G : gv_t} {Z : zx_t} {X : fx_t} {cc : ByteArray} {own : String} {nL : Nat} {ret : Option FieldType} (C : Cx G Z X cc own nL ret) : gv_B G ≤ (fx_s X).heap.size := by
  obtain ⟨-, -, -, -, -, -, -, -, h, -⟩ := C
  exact h
theorem cx_R {G : gv_t} {Z : zx_t} {X : fx_t} {cc : ByteArray} {own : String} {nL : Nat} {ret : Option FieldType} (C : Cx G Z X cc own nL ret) : (fx_r X).cells = ph_z (zx_1 Z) - ph_z (zx_0 Z) ∧ (fx_r X).slots = ph_s (zx_1 Z) - ph_s (zx_0 Z) ∧ 64 ≤ ph_z (zx_0 Z) := by
  obtain ⟨-, -, -, -, -, -, -, -, -, -, h1, h2, h3, -⟩ := C
  exact ⟨h1, h2, h3⟩
theorem wg_ {G : gv_t} {Z : zx_t} {X : fx_t} {cc : ByteArray} {own : String} {nL : Nat} {ret : Option FieldType} {pc idx : Nat} {ls : Array Slot} {st : List Value} {h : ph_t} {H : Heap} {locs : List Loc} {cells slots : Nat} {c N : Nat} {Cn : String} {Tb : u_T} {ty : Nat → FieldType} {a j : Nat} (C : Cx G Z X cc own nL ret) (hd : decode cc pc = .ok (.getfield idx, 3)) (kc : kc_ G c Cn Tb N ty) (hj : j < N) (hl : fl_ own idx (Tb j).1 (Tb j).2.1 (Tb j).2.2.1) (ha : ph_T h a = c) (P : PR G h H)
    (kk : W (fx_p X) (fx_l X) (fx_e X) (fx_r X) (fx_s X) (fx_m X) (fx_a X) (fx_b X) (fx_h X) (fx_c X) H locs cells slots (fx_q X) (F0 (fx_m X) (pc + 3) ls (fv_ G h a (ty j) j :: st))) :
    W (fx_p X) (fx_l X) (fx_e X) (fx_r X) (fx_s X) (fx_m X) (fx_a X) (fx_b X) (fx_h X) (fx_c X) H locs cells slots (fx_q X) (F0 (fx_m X) pc ls (rf_ G (some a) :: st)) := by
  obtain ⟨k1, k2, k3, k4, k5, k6⟩ := kc
  have hne : ph_T h a ≠ 99 := by rw [ha]; omega
  have h32 := (P.2.2.1 a hne).1
  have hce := (P.2.2.2 a h32).1 (by rw [ha]; exact k1)
  rw [ha] at hce
  obtain ⟨r, r1, cell, q1, q2, q3, q4⟩ := hce
  have hr : r = (Cn, Tb, N) := Option.some.inj (r1.symm.trans k2)
  subst hr
  obtain ⟨hS, hfc, kC, hkC, hkind⟩ := cx_kn C k2
  obtain ⟨cf, kf, fi, f, hi, hsl⟩ := hS j hj
  have hst := (u_facts hfc hkC (u_lays (C.2.2.2.2.1) k4 hj) hi).1
  have hv : cell.slots[f.slot]? = some (fv_ G h a (ty j) j) := by
    rw [hsl, q4 j hj, ← k3 j]
  rw [rf_some h32]
  rcases hl with hl | ⟨host, hl⟩
  · exact W.getf C.1 C.2.1 C.2.2.2.1 (cx_w C hl) hi hst q1 (by rw [q3]; exact fun h => by cases h) hv rfl rfl hd kk
  · obtain ⟨n1, n2⟩ := cx_nw C hl rfl
    exact va_Wgetf C.1 C.2.1 C.2.2.2.1 (va_Nw.use rfl (va_Nw.warmF n2 n1)) hi hst q1 (by rw [q3]; exact fun h => by cases h) hv rfl rfl hd kk
theorem gI_some {h : ph_t} {x : Option Nat} {c j : Nat} {v : Int32} (e : gI h x c j = some v) : ∃ a, x = some a ∧ ph_T h a = c ∧ v = ph_I h a j := by
  unfold gI at e
  cases x with
  | none => cases e
  | some a =>
    simp only [Option.bind_some] at e
    split at e
    · exact ⟨a, rfl, by assumption, (Option.some.inj e).symm⟩
    · cases e
theorem gL_some {h : ph_t} {x : Option Nat} {c j : Nat} {v : Int64} (e : gL h x c j = some v) : ∃ a, x = some a ∧ ph_T h a = c ∧ v = ph_L h a j := by
  unfold gL at e
  cases x with
  | none => cases e
  | some a =>
    simp only [Option.bind_some] at e
    split at e
    · exact ⟨a, rfl, by assumption, (Option.some.inj e).symm⟩
    · cases e
theorem gR_some {h : ph_t} {x : Option Nat} {c j : Nat} {v : Option Nat} (e : gR h x c j = some v) : ∃ a, x = some a ∧ ph_T h a = c ∧ v = ph_R h a j := by
  unfold gR at e
  cases x with
  | none => cases e
  | some a =>
    simp only [Option.bind_some] at e
    split at e
    · exact ⟨a, rfl, by assumption, (Option.some.inj e).symm⟩
    · cases e
/-- the kind of a field: an int or narrower, a long, a reference -/
def fk_ (ty : FieldType) : Nat := match ty with
  | .long => 1
  | .object _ => 2
  | .array _ => 2
  | _ => 0
theorem fv_0 {G : gv_t} {h : ph_t} {k j : Nat} {ty : FieldType} (e : fk_ ty = 0) : fv_ G h k ty j = .int (ph_I h k j) := by
  cases ty <;> first | rfl | (simp [fk_] at e)
theorem fv_1 {G : gv_t} {h : ph_t} {k j : Nat} {ty : FieldType} (e : fk_ ty = 1) : fv_ G h k ty j = .long (ph_L h k j) := by
  cases ty <;> first | rfl | (simp [fk_] at e)
theorem fv_2 {G : gv_t} {h : ph_t} {k j : Nat} {ty : FieldType} (e : fk_ ty = 2) : fv_ G h k ty j = rf_ G (ph_R h k j) := by
  cases ty <;> first | rfl | (simp [fk_] at e)
theorem bind_some_of {α β : Type} {o : Option α} {f : α → Option β} {r : β} (h : o.bind f = some r) : ∃ x, o = some x ∧ f x = some r := by
  cases o with
  | none => cases h
  | some x => exact ⟨x, rfl, h⟩
theorem tr_gI {T : Type} {G : gv_t} {Z : zx_t} {Gd : T → Prop} {cc : ByteArray} {own : String} {nL : Nat} {ret : Option FieldType} {pc : Nat} {L : lo_t} {st : List Value} {h : ph_t} {c N idx : Nat} {Cn : String} {Tb : u_T} {ty : Nat → FieldType} {x : Option Nat} {o : Int32 → Option T} (C : Cz G Z cc own nL ret) (pc' : Nat) (hp : pc + 3 = pc') (hd : decode cc pc = .ok (.getfield idx, 3)) (kc : kc_ G c Cn Tb N ty) (j : Nat) (hj : j < N) (hk : fk_ (ty j) = 0) (hl : fl_ own idx (Tb j).1 (Tb j).2.1 (Tb j).2.2.1)
    (k : ∀ v, Tr G Z Gd pc' L (.int v :: st) h (o v)) : Tr G Z Gd pc L (rf_ G x :: st) h ((gI h x c j).bind o) := by
  subst hp
  intro r hr hg
  obtain ⟨v, h1, h2⟩ := bind_some_of hr
  obtain ⟨a, rfl, h3, h4⟩ := gI_some h1
  have K := k v r h2 hg
  refine ⟨K.1, fun X kx H locs ls a1 a2 a3 a4 a5 => have C := C X kx; wg_ C hd kc hj hl h3 a3 ?_⟩
  rw [fv_0 hk, ← h4]
  exact K.2 X kx H locs ls a1 a2 a3 a4 a5
theorem tr_gL {T : Type} {G : gv_t} {Z : zx_t} {Gd : T → Prop} {cc : ByteArray} {own : String} {nL : Nat} {ret : Option FieldType} {pc : Nat} {L : lo_t} {st : List Value} {h : ph_t} {c N idx : Nat} {Cn : String} {Tb : u_T} {ty : Nat → FieldType} {x : Option Nat} {o : Int64 → Option T} (C : Cz G Z cc own nL ret) (pc' : Nat) (hp : pc + 3 = pc') (hd : decode cc pc = .ok (.getfield idx, 3)) (kc : kc_ G c Cn Tb N ty) (j : Nat) (hj : j < N) (hk : fk_ (ty j) = 1) (hl : fl_ own idx (Tb j).1 (Tb j).2.1 (Tb j).2.2.1)
    (k : ∀ v, Tr G Z Gd pc' L (.long v :: st) h (o v)) : Tr G Z Gd pc L (rf_ G x :: st) h ((gL h x c j).bind o) := by
  subst hp
  intro r hr hg
  obtain ⟨v, h1, h2⟩ := bind_some_of hr
  obtain ⟨a, rfl, h3, h4⟩ := gL_some h1
  have K := k v r h2 hg
  refine ⟨K.1, fun X kx H locs ls a1 a2 a3 a4 a5 => have C := C X kx; wg_ C hd kc hj hl h3 a3 ?_⟩
  rw [fv_1 hk, ← h4]
  exact K.2 X kx H locs ls a1 a2 a3 a4 a5
theorem tr_gR {T : Type} {G : gv_t} {Z : zx_t} {Gd : T → Prop} {cc : ByteArray} {own : String} {nL : Nat} {ret : Option FieldType} {pc : Nat} {L : lo_t} {st : List Value} {h : ph_t} {c N idx : Nat} {Cn : String} {Tb : u_T} {ty : Nat → FieldType} {x : Option Nat} {o : Option Nat → Option T} (C : Cz G Z cc own nL ret) (pc' : Nat) (hp : pc + 3 = pc') (hd : decode cc pc = .ok (.getfield idx, 3)) (kc : kc_ G c Cn Tb N ty) (j : Nat) (hj : j < N) (hk : fk_ (ty j) = 2) (hl : fl_ own idx (Tb j).1 (Tb j).2.1 (Tb j).2.2.1)
    (k : ∀ v, Tr G Z Gd pc' L (rf_ G v :: st) h (o v)) : Tr G Z Gd pc L (rf_ G x :: st) h ((gR h x c j).bind o) := by
  subst hp
  intro r hr hg
  obtain ⟨v, h1, h2⟩ := bind_some_of hr
  obtain ⟨a, rfl, h3, h4⟩ := gR_some h1
  have K := k v r h2 hg
  refine ⟨K.1, fun X kx H locs ls a1 a2 a3 a4 a5 => have C := C X kx; wg_ C hd kc hj hl h3 a3 ?_⟩
  rw [fv_2 hk, ← h4]
  exact K.2 X kx H locs ls a1 a2 a3 a4 a5
/-- how a field may be written here: it isn't final; or it is, in its own class's constructor -/
def fw_ (X : fx_t) (own o : String) (final : Bool) : Prop := final = false ∨ (final = true ∧ (fx_h X).name = "<init>" ∧ o = own)
theorem wp_ {G : gv_t} {Z : zx_t} {X : fx_t} {cc : ByteArray} {own : String} {nL : Nat} {ret : Option FieldType} {pc idx : Nat} {ls : Array Slot} {st : List Value} {h h' : ph_t} {H : Heap} {locs : List Loc} {cells slots : Nat} {c N : Nat} {Cn : String} {Tb : u_T} {ty : Nat → FieldType} {a j : Nat} {v : Value} (C : Cx G Z X cc own nL ret) (hd : decode cc pc = .ok (.putfield idx, 3)) (kc : kc_ G c Cn Tb N ty) (hj : j < N) (hl : fl_ own idx (Tb j).1 (Tb j).2.1 (Tb j).2.2.1) (hf : (Tb j).2.2.2 = false ∨ ((Tb j).2.2.2 = true ∧ (fx_h X).name = "<init>" ∧ (Tb j).1 = own ∧ Cond.fieldLink own idx (Tb j).1 (Tb j).2.1 (Tb j).2.2.1 ∈ lw_all)) (hn : narrow (ty j) v = v) (hfit : fits (ty j) v = true) (ha : ph_T h a = c) (P : PR G h H) (hS : va_S (fun q => gv_B G ≤ q) (fx_s X).heap H locs)
    (hT : ∀ b, ph_T h' b = ph_T h b) (hN : ∀ b, ph_N h' b = ph_N h b) (hz : ph_z h' = ph_z h) (hI : ∀ b, b ≠ a → ph_I h' b = ph_I h b) (hL : ∀ b, b ≠ a → ph_L h' b = ph_L h b) (hR : ∀ b, b ≠ a → ph_R h' b = ph_R h b)
    (hv : fv_ G h' a (ty j) j = v) (ho : ∀ i, i ≠ j → fv_ G h' a (ty i) i = fv_ G h a (ty i) i)
    (kk : ∀ (H' : Heap) (locs' : List Loc), PR G h' H' → va_S (fun q => gv_B G ≤ q) (fx_s X).heap H' locs' → W (fx_p X) (fx_l X) (fx_e X) (fx_r X) (fx_s X) (fx_m X) (fx_a X) (fx_b X) (fx_h X) (fx_c X) H' locs' cells slots (fx_q X) (F0 (fx_m X) (pc + 3) ls st)) :
    W (fx_p X) (fx_l X) (fx_e X) (fx_r X) (fx_s X) (fx_m X) (fx_a X) (fx_b X) (fx_h X) (fx_c X) H locs cells slots (fx_q X) (F0 (fx_m X) pc ls (v :: rf_ G (some a) :: st)) := by
  obtain ⟨k1, k2, k3, k4, k5, k6⟩ := kc
  have hne : ph_T h a ≠ 99 := by rw [ha]; omega
  have h32 := (P.2.2.1 a hne).1
  have hce := (P.2.2.2 a h32).1 (by rw [ha]; exact k1)
  rw [ha] at hce
  obtain ⟨r, r1, cell, q1, q2, q3, q4⟩ := hce
  have hr : r = (Cn, Tb, N) := Option.some.inj (r1.symm.trans k2)
  subst hr
  have hKn := cx_kn C k2
  have hts := C.2.2.2.2.1
  have hap : ∀ x y, x < N → y < N → x ≠ y → ((gv_D G).2 c) x ≠ ((gv_D G).2 c) y := by
    intro x y hx hy hne
    obtain ⟨hS, -⟩ := hKn
    obtain ⟨_, _, _, fa, hia, ea⟩ := hS x hx
    obtain ⟨_, _, _, fb, hib, eb⟩ := hS y hy
    rw [← ea, ← eb]
    refine u_apart (u_lays hts k4 hx) (u_lays hts k4 hy) hia hib ?_
    rw [(State.fieldFound?_type hia (k5 x hx)).1, (State.fieldFound?_type hib (k5 y hy)).1]
    exact k6 x hx y hy hne
  obtain ⟨hS0, hfc, kC, hkC, hkind⟩ := hKn
  obtain ⟨cf, kf, fi, f, hi, hsl⟩ := hS0 j hj
  have hst := (u_facts hfc hkC (u_lays hts k4 hj) hi).1
  rw [rf_some h32]
  have fin : ∀ (H' : Heap), H'[gv_B G + (a - 64)]? = some (cell.setSlot f.slot v) → H'.size = H.size → (∀ q, q ≠ gv_B G + (a - 64) → H'[q]? = H[q]?) → PR G h' H' := by
    intro H' e1 e2 e3
    refine P.put h32 hT hN hz hI hL hR e2 e3 ⟨fun h1 => ?_, fun h1 h2 => ?_⟩
    · rw [hT, ha]
      refine ⟨_, k2, ?_⟩
      rw [hsl] at e1
      refine t_OB.to (V := updV (fun i => fv_ G h a (gv_f G c i) i) j v) ⟨_, e1, q2, q3, t_set q4 hap hj v⟩ (fun i _ => ?_)
      by_cases e : i = j
      · subst e
        simp [updV, k3, hv]
      · simp only [updV, if_neg e, k3]
        exact (ho i e).symm
    · rw [hT, ha] at h1
      omega
  have hlay := hts _ (k4 _ (u_in_lay hj))
  unfold u_lay at hlay
  rcases hf with hf | ⟨hf1, hf2, hf3, hl0⟩
  · rw [if_neg (by rw [hf]; decide)] at hlay
    have h6 := u_store hfc hkC hkind hlay hi (k5 j hj) hn hfit
    rcases hl with hl | ⟨host, hl⟩
    · exact W.putK C.1 C.2.1 (f := f) ⟨C.2.2.2.1, cx_w C hl, ⟨_, _, _, hi⟩, hst⟩ (by rw [q2]; exact h6) q1 q3 (by rw [hsl]; exact k2_hasslot (q4 j hj)) rfl rfl hd fun H' e1 e2 e3 => kk H' _ (fin H' e1 e2 e3) (hS.put e2 e3 (Nat.le_add_right _ _))
    · obtain ⟨n1, n2⟩ := cx_nw C hl rfl
      exact va_WputK C.1 C.2.1 (f := f) C.2.2.2.1 (va_Nw.use rfl (va_Nw.warmF n2 n1)) hi hst (by rw [q2]; exact h6) q1 q3 (by rw [hsl]; exact k2_hasslot (q4 j hj)) rfl rfl hd fun H' e1 e2 e3 => kk H' _ (fin H' e1 e2 e3) (hS.put e2 e3 (Nat.le_add_right _ _))
  · rw [if_pos hf1] at hlay
    have hcf : (fx_m X).cls = cf := by
      obtain ⟨_, _, c', _, _, _, -, -, hf', -, -, -, hown2, -⟩ := Cond.laysFinal_spec hlay
      have e1 : c' = cf := by have := hi.symm.trans hf'; simp at this; exact this.1.symm
      rw [hf3] at hown2
      rw [← e1]; exact Option.some.inj (C.2.2.2.1.symm.trans hown2)
    have h6 := u_fits hfc hkC hkind (Or.inr hlay) hi (k5 j hj) hn hfit
    exact W.putFinK C.1 C.2.1 C.2.2.2.1 (cx_w C hl0) hi hst hcf hf2 (by rw [q2]; exact h6) q1 q3 (by rw [hsl]; exact k2_hasslot (q4 j hj)) rfl rfl hd fun H' e1 e2 e3 => kk H' _ (fin H' e1 e2 e3) (hS.put e2 e3 (Nat.le_add_right _ _))
theorem cx_l {G : gv_t} {Z : zx_t} {X : fx_t} {cc : ByteArray} {own : String} {nL : Nat} {ret : Option FieldType} (C : Cx G Z X cc own nL ret) : fx_l X = gv_l G := by
  obtain ⟨-, -, -, -, -, -, -, -, -, -, -, -, -, h⟩ := C
  exact h
