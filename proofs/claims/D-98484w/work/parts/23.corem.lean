/-! CORE M: methods with a handler -/
def MtW (G : gv_t) (y : MethodName) (cc : ByteArray) (nL : Nat) (ret : Option FieldType) (hh : List (Nat × Nat × Nat × Nat)) (fr lo : Nat) (args : List pa_t) (h h' : ph_t) (oE : Outcome) : Prop :=
  (ph_z h ≤ ph_z h' ∧ ph_s h ≤ ph_s h') ∧ Met (gv_l G) y (wsW_ y cc nL ret hh) { frames := fr, cells := ph_z h' - ph_z h, slots := ph_s h' - ph_s h, locals := lo } (pc_ G args h) (fun _ _ oc t => oc = oE ∧ PR G h' t.heap) (ph_z h' - ph_z h) (ph_s h' - ph_s h) (fun q => gv_B G ≤ q)
def ht_ (Z : zx_t) (hh : List (Nat × Nat × Nat × Nat)) : Prop := ∀ X, zx_k Z X → (fx_c X).exceptionTable.toList = tableOf hh
def zk_W (G : gv_t) (cc : ByteArray) (own : String) (nL : Nat) (ret : Option FieldType) (hh : List (Nat × Nat × Nat × Nat)) (fr lo : Nat) (h h' : ph_t) (oE : Outcome) (nm : String) : fx_t → Prop := fun X =>
  Cx G (h, h', fun _ => True) X cc own nL ret ∧ ((fx_r X).frames = fr ∧ (fx_r X).locals = lo) ∧ (fx_q X = MQ (fx_b X) (fun _ _ oc t => oc = oE ∧ PR G h' t.heap) (fx_a X) (fx_s X) (ph_z h' - ph_z h) (ph_s h' - ph_s h) (fun q => gv_B G ≤ q)) ∧ (fx_h X).name = nm ∧ (fx_c X).exceptionTable.toList = tableOf hh
abbrev zz_W (G : gv_t) (cc : ByteArray) (own : String) (nL : Nat) (ret : Option FieldType) (hh : List (Nat × Nat × Nat × Nat)) (fr lo : Nat) (h h' : ph_t) (oE : Outcome) (nm : String) : zx_t := (h, h', zk_W G cc own nL ret hh fr lo h h' oE nm)
theorem mt_ofW {G : gv_t} {y : MethodName} {cc : ByteArray} {own : String} {nL : Nat} {ret : Option FieldType} {hh : List (Nat × Nat × Nat × Nat)} {fr lo : Nat} {args : List pa_t} {h h' : ph_t} {oE : Outcome} (g : gv_ok G) (hy : plainName y.cls = true) (ho : y.cls = own) (hlen : lz_ args ≤ nL)
    (body : ∀ Z, Z = zz_W G cc own nL ret hh fr lo h h' oE y.name → Cz G Z cc own nL ret → Rz Z fr lo → qe_ G Z oE → ht_ Z hh → HW G Z 0 (la_ 0 args) [] h) : MtW G y cc nL ret hh fr lo args h h' oE := by
  have K := body (zz_W G cc own nL ret hh fr lo h h' oE y.name) rfl (fun X q => q.1) (fun X q => q.2.1) (fun X q => q.2.2.1) (fun X q => q.2.2.2.2)
  refine ⟨K.1, MetFree.of_bodyS (code := cc) (maxLocals := nL) (ret := ret) hy ?_ ?_⟩
  · intro args s m h hn
    obtain ⟨m9, meth, c, hn9, h1, h2, h3, h4, -, h5, h6, -⟩ := Cond.codeWith_spec (atoms_spec (ws := wsW_ y cc nL ret hh) h _ List.mem_cons_self)
    cases hn.symm.trans hn9
    exact ⟨meth, c, h1, h2, h3, h4, h5, h6⟩
  · intro p e s m a below meth c s₁ B hml hv _
    obtain ⟨rfl, hW, h32, hP⟩ := hv
    have hh0 : s₁.heap = s.heap := by rw [B.state]; rfl
    have hts := atoms_spec (ws := wsW_ y cc nL ret hh) B.pre
    have hT := vx_table (x := y) B (hts _ List.mem_cons_self)
    have K2 := K.2 (p, gv_l G, e, ({ frames := fr, cells := ph_z h' - ph_z h, slots := ph_s h' - ph_s h, locals := lo } : Room), s, m, (args.map (pv_ G)).toArray, below, meth, c, MQ below (fun _ _ oc t => oc = oE ∧ PR G h' t.heap) (args.map (pv_ G)).toArray s (ph_z h' - ph_z h) (ph_s h' - ph_s h) (fun q => gv_B G ≤ q)) ⟨⟨B.exec, B.bytes, hml, by rw [← ho]; exact findClass_of_methodNamed B.named, fun w hw => hts w (List.mem_cons_of_mem _ hw), B.notSynchronized, B.returns, hW, hP.B h32, g, rfl, rfl, h32, rfl⟩, ⟨rfl, rfl⟩, rfl, (name_of_methodNamed B.named B.method).1, hT⟩ s.heap [] _ (Nat.le_refl _) (Nat.le_refl _) hP va_S.rf (by rw [show c.maxLocals = nL from hml]; rw [← la_eq]; exact lv_entry (args.map (pv_ G)) (by rw [lz_eq]; exact hlen))
    rw [Nat.sub_self, Nat.sub_self] at K2
    rw [lg_entry_eq]
    obtain ⟨t, a1, o, b1, b2, b3⟩ := K2 s₁ hh0 (Stand.of_body B)
    exact ⟨t, o, a1, b1, b2, b3⟩
theorem tx_catch {T : Type} {G : gv_t} {Z : zx_t} {Gd : T → Prop} {cc : ByteArray} {own : String} {nL : Nat} {ret : Option FieldType} {pc : Nat} {L L' : lo_t} {h : ph_t} {o : Option T} {f t hp ct i : Nat} {k4 : Fin 4} (C : Cz G Z cc own nL ret) (HT : ht_ Z [(f, t, hp, ct)]) (hcov : f ≤ pc ∧ pc < t) (hct : ct ≠ 0) (hl : Cond.classLink own ct "TruthBridge$Fault" ∈ lw_all) (hca : Cond.castable "TruthBridge$Fault" "TruthBridge$Fault" ∈ lw_tbl) (hd : decode cc hp = .ok (.astore_n k4, 1)) (hi : (k4 : Nat) = i) (hn : i < nL) (ks : List Nat) (hL : ks.filterMap (fun j => L[j]?) = L') (hL2 : L'.all (fun q => !(q.1 == i) && !(q.1 + 1 == i && pj_ q.2)) = true)
    (kk : Tr G Z Gd (hp + 1) L' [] h o) : Tx G Z Gd pc L h o := by
  intro r hr hg
  have K := kk r hr hg
  refine ⟨K.1, fun X kx H locs ls rest q ce a1 a2 a3 a4 a5 a6 a7 a8 => ?_⟩
  have C := C X kx
  have hca' : (Cond.castable "TruthBridge$Fault" "TruthBridge$Fault").before (fx_a X) (fx_s X) = true := by
    obtain ⟨n1, n2⟩ := cx_nw C hca rfl
    exact va_Nw.use rfl (va_Nw.warmC n2 n1)
  refine vx_catch C.2.2.2.1 [] ⟨f, t, hp, ct⟩ [] (by rw [HT X kx]; rfl) (fun z hz => by cases hz) (by simp [covers, hcov.1, hcov.2]) hct (cx_w C hl) hca' a6 a7 a8 ?_
  have a5' := lv_sub a5 ks (pl_pick (G := G) hL)
  refine lv_astore_n C.1 C.2.1 hd hi a5' (by rw [C.2.2.1]; exact hn) rfl (fun ls' e' => ?_)
  refine K.2 X kx H locs ls' a1 a2 a3 a4 ⟨e'.1, e'.2.1, fun z hz => e'.2.2 z (List.mem_cons_of_mem _ ?_)⟩
  refine List.mem_filter.mpr ⟨hz, ?_⟩
  obtain ⟨z0, hz0, rfl⟩ := List.mem_map.mp hz
  have := List.all_eq_true.mp hL2 z0 hz0
  simp only [pv_cat]
  exact this
theorem tr_aastS {T : Type} {G : gv_t} {Z : zx_t} {Gd : T → Prop} {cc : ByteArray} {own : String} {nL : Nat} {ret : Option FieldType} {pc : Nat} {L : lo_t} {st : List Value} {h : ph_t} {x : Option Nat} {u : Nat} {i : Int32} {o : ph_t → Option T} (C : Cz G Z cc own nL ret) (w : gw_ G) (pc' : Nat) (hp : pc + 1 = pc') (hd : decode cc pc = .ok (.aastore, 1)) (hu : u < 28)
    (k : ∀ h', Tr G Z Gd pc' L st h' (o h')) : Tr G Z Gd pc L (rf_ G (some u) :: .int i :: rf_ G x :: st) h ((yR h x 24 i (some u) 29).bind o) := by
  subst hp
  intro r hr hg
  obtain ⟨h', h1, h2⟩ := bind_some_of hr
  obtain ⟨a, w9, rfl, e9, h3, h4, h6, rfl⟩ := yR_some h1
  cases e9
  have K := k _ r h2 hg
  refine ⟨K.1, fun X kx H locs ls a1 a2 a3 a4 a5 => ?_⟩
  have C := C X kx
  obtain ⟨g1, g2⟩ := wx_ a3 h3 (by omega) (by omega)
  rw [va_hr (by omega)] at g2
  obtain ⟨i1, i2⟩ := ix_in h4.1 h4.2
  have h0 : ¬ i < 0 := fun q => i1 (Or.inl q)
  obtain ⟨b, b2, e1, e2, s1, -⟩ := gt_at C w a3 hu
  obtain ⟨cellV, q1, q2, q3, -⟩ := s1
  have hRA := (cx_ar C (t := 24) (by omega) (by omega)).2
  obtain ⟨kA, comp, k1, k2, k3, -⟩ := hRA
  have hcomp : comp = cellV.cls := Option.some.inj (k3.symm.trans q3)
  subst hcomp
  obtain ⟨kC, hkC, -⟩ := Vm.findClass_spec q3
  have hin : u < 64 := by omega
  obtain ⟨ax, hax⟩ : ∃ ax, gv_x G u = some ax := by
    obtain ⟨adK, adV, hx⟩ := w.2.2.2.2.2
    exact ⟨_, (hx u hu).2.1⟩
  have eb : b = ax := by
    have : rf_ G (some u) = .ref ax := by simp [rf_, rm_, hax, va_rf, hin]
    rw [e1] at this
    exact Value.ref.inj this
  subst eb
  rw [rf_some g1, e1]
  refine W.aast C.1 C.2.1 g2 (fun q h => by cases h) (fun h => by cases h) k1 k2 rfl hkC ⟨h0, by show _ < (arrV _ _ _).slots.size; rw [arrV_size]; exact i2⟩ q1 (fun q h => by rw [h] at q2; cases q2) hkC (va_asg _ _) rfl rfl hd fun H1 e z oq => ?_
  refine K.2 X kx H1 _ ls a1 a2 (a3.put g1 (fun _ => rfl) (fun _ => rfl) rfl (fun _ _ => rfl) (fun _ _ => rfl) wR_Rb z oq ⟨fun q => ?_, fun _ _ => ?_⟩) (a4.put z oq (Nat.le_add_right _ _)) a5
  · rw [wR_T, h3] at q
    omega
  · have h3' : ph_T (ph_wR h a i.toNatClampNeg (some u)) a = 24 := h3
    rw [va_hr (by omega), h3', e]
    rw [vp_cell_q, vp_cell_q, arrV_store]
    show some (arrV _ (ph_N h a) _) = some (arrV _ (ph_N h a) _)
    congr 2
    funext q
    by_cases hq : q = i.toNatClampNeg
    · subst hq
      simp [updV, wR_R, rm_, hax, hin, va_rf]
    · simp [updV, wR_R, hq]
