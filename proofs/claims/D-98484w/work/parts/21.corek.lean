/-! CORE K: methods that may throw the Fault, and methods that catch it -/
def ox_ {V : Type} (ov : V → Option Value) (r : V ⊕ Nat) : Option Outcome := match r with
  | .inl v => some (.returned (ov v))
  | .inr _ => none
def qc_ (G : gv_t) (h' : ph_t) (oX : Option Outcome) : Array Value → State → Outcome → State → Prop := fun _ _ oc t => oX = some oc ∧ PR G h' t.heap
def xc_ (G : gv_t) (h' : ph_t) (oX : Option Outcome) : String → State → State → Prop := fun E _ t => oX = none ∧ E = "TruthBridge$Fault" ∧ PR G h' t.heap
def MtX (G : gv_t) (y : MethodName) (cc : ByteArray) (nL : Nat) (ret : Option FieldType) (fr lo : Nat) (args : List pa_t) (h h' : ph_t) (oX : Option Outcome) : Prop :=
  (ph_z h ≤ ph_z h' ∧ ph_s h ≤ ph_s h') ∧ vx_Met (gv_l G) y (ws_ y cc nL ret) { frames := fr, cells := ph_z h' - ph_z h, slots := ph_s h' - ph_s h, locals := lo } (pc_ G args h) (qc_ G h' oX) (xc_ G h' oX) (ph_z h' - ph_z h) (ph_s h' - ph_s h) (fun q => gv_B G ≤ q)
def qx_ (G : gv_t) (Z : zx_t) (oX : Option Outcome) : Prop := ∀ X, zx_k Z X → (fx_q X = vx_MQ (fx_b X) (qc_ G (zx_1 Z) oX) (xc_ G (zx_1 Z) oX) (fx_a X) (fx_s X) (ph_z (zx_1 Z) - ph_z (zx_0 Z)) (ph_s (zx_1 Z) - ph_s (zx_0 Z)) (fun q => gv_B G ≤ q)) ∧ ∀ x ∈ (fx_c X).exceptionTable.toList, False
def gx_ {V : Type} (ov : V → Option Value) (oX : Option Outcome) (hE : ph_t) : (V ⊕ Nat) × ph_t → Prop := fun r => oX = ox_ ov r.1 ∧ hE = r.2
def zk_X (G : gv_t) (cc : ByteArray) (own : String) (nL : Nat) (ret : Option FieldType) (fr lo : Nat) (h h' : ph_t) (oX : Option Outcome) (nm : String) : fx_t → Prop := fun X =>
  Cx G (h, h', fun _ => True) X cc own nL ret ∧ ((fx_r X).frames = fr ∧ (fx_r X).locals = lo) ∧ ((fx_q X = vx_MQ (fx_b X) (qc_ G h' oX) (xc_ G h' oX) (fx_a X) (fx_s X) (ph_z h' - ph_z h) (ph_s h' - ph_s h) (fun q => gv_B G ≤ q)) ∧ ∀ x ∈ (fx_c X).exceptionTable.toList, False) ∧ (fx_h X).name = nm
abbrev zz_X (G : gv_t) (cc : ByteArray) (own : String) (nL : Nat) (ret : Option FieldType) (fr lo : Nat) (h h' : ph_t) (oX : Option Outcome) (nm : String) : zx_t := (h, h', zk_X G cc own nL ret fr lo h h' oX nm)
theorem mt_ofX {G : gv_t} {y : MethodName} {cc : ByteArray} {own : String} {nL : Nat} {ret : Option FieldType} {fr lo : Nat} {args : List pa_t} {h h' : ph_t} {oX : Option Outcome} (g : gv_ok G) (hy : plainName y.cls = true) (ho : y.cls = own) (hlen : lz_ args ≤ nL)
    (body : ∀ Z, Z = zz_X G cc own nL ret fr lo h h' oX y.name → Cz G Z cc own nL ret → Rz Z fr lo → qx_ G Z oX → (∀ X, zx_k Z X → (fx_h X).name = y.name) → HW G Z 0 (la_ 0 args) [] h) : MtX G y cc nL ret fr lo args h h' oX := by
  have K := body (zz_X G cc own nL ret fr lo h h' oX y.name) rfl (fun X q => q.1) (fun X q => q.2.1) (fun X q => q.2.2.1) (fun X q => q.2.2.2)
  refine ⟨K.1, vx_ofW (cc := cc) (maxL := nL) (ret := ret) hy rfl ?_⟩
  intro p e s m a below meth c s₁ B hml hta hv
  obtain ⟨rfl, hW, h32, hP⟩ := hv
  have hts := atoms_spec (ws := ws_ y cc nL ret) B.pre
  have K2 := K.2 (p, gv_l G, e, ({ frames := fr, cells := ph_z h' - ph_z h, slots := ph_s h' - ph_s h, locals := lo } : Room), s, m, (args.map (pv_ G)).toArray, below, meth, c, vx_MQ below (qc_ G h' oX) (xc_ G h' oX) (args.map (pv_ G)).toArray s (ph_z h' - ph_z h) (ph_s h' - ph_s h) (fun q => gv_B G ≤ q)) ⟨⟨B.exec, B.bytes, hml, by rw [← ho]; exact findClass_of_methodNamed B.named, fun w hw => hts w (List.mem_cons_of_mem _ hw), B.notSynchronized, B.returns, hW, hP.B h32, g, rfl, rfl, h32, rfl⟩, ⟨rfl, rfl⟩, ⟨rfl, hta⟩, (name_of_methodNamed B.named B.method).1⟩ s.heap [] _ (Nat.le_refl _) (Nat.le_refl _) hP va_S.rf (by rw [show c.maxLocals = nL from hml]; rw [← la_eq]; exact lv_entry (args.map (pv_ G)) (by rw [lz_eq]; exact hlen))
  rw [Nat.sub_self, Nat.sub_self] at K2
  rw [lg_entry_eq]
  exact K2
-- a thrown Fault over the frame
def HX (G : gv_t) (Z : zx_t) (pc : Nat) (L : lo_t) (h : ph_t) : Prop :=
  (ph_z h ≤ ph_z (zx_1 Z) ∧ ph_s h ≤ ph_s (zx_1 Z)) ∧ ∀ X, zx_k Z X → ∀ (H : Heap) (locs : List Loc) (ls : Array Slot) (rest : List Value) (q : Nat) (ce : Cell), ph_z (zx_0 Z) ≤ ph_z h → ph_s (zx_0 Z) ≤ ph_s h → PR G h H → va_S (fun q => gv_B G ≤ q) (fx_s X).heap H locs → lv_has ls (fx_c X).maxLocals (pl_ G L) →
    H[q]? = some ce → ce.vm = .none → (fx_s X).vm.findClass "TruthBridge$Fault" = some ce.cls →
    vx_W (fx_p X) (fx_l X) (fx_e X) (fx_r X) (fx_s X) (fx_m X) (fx_a X) (fx_b X) (fx_h X) (fx_c X) H locs (ph_z h - ph_z (zx_0 Z)) (ph_s h - ph_s (zx_0 Z)) (fx_q X) (F0 (fx_m X) pc ls rest) q
def Tx {T : Type} (G : gv_t) (Z : zx_t) (Gd : T → Prop) (pc : Nat) (L : lo_t) (h : ph_t) (o : Option T) : Prop := ∀ r : T, o = some r → Gd r → HX G Z pc L h
section CK
variable {G : gv_t} {Z : zx_t} {cc : ByteArray} {own : String} {nL : Nat} {ret : Option FieldType} {pc : Nat} {L : lo_t} {h : ph_t}
theorem tx_out {V : Type} {ov : V → Option Value} {oX : Option Outcome} {n : Nat} (C : Cz G Z cc own nL ret) (E : qx_ G Z oX) : Tx G Z (gx_ ov oX (zx_1 Z)) pc L h (some (.inr n, h)) := by
  intro r hr hg
  cases hr
  obtain ⟨g1, g2⟩ := hg
  dsimp only at g1 g2
  refine ⟨by rw [g2]; exact ⟨Nat.le_refl _, Nat.le_refl _⟩, fun X kx H locs ls rest q ce a1 a2 a3 a4 a5 a6 a7 a8 => ?_⟩
  have C := C X kx
  obtain ⟨e1, e2⟩ := E X kx
  rw [e1, g2]
  exact vx_out (fun x hx => absurd hx (fun z => e2 x z)) C.2.2.2.2.2.1 a6 a7 a8 (fun t ht _ => ⟨g1, rfl, by rw [ht]; exact a3⟩) a4.2.2 (Nat.le_refl _) (Nat.le_refl _)
theorem tx_xr {T S : Type} {Gd : T → Prop} {pc0 : Nat} {Ls : S → lo_t} {hs : S → ph_t} {o : Option T} (k : Tx G Z Gd pc L h o) : Tx G Z (gl_ G Z pc0 Ls hs Gd) pc L h (xr_ o) := by
  intro r hr hg
  unfold xr_ at hr
  cases o with
  | none => cases hr
  | some t =>
    cases hr
    exact k t rfl hg
theorem tr_iretX {oX : Option Outcome} {v : Int32} (C : Cz G Z cc own nL (some .int)) (E : qx_ G Z oX) (hd : decode cc pc = .ok (.ireturn, 1)) : Tr G Z (gx_ ov_I oX (zx_1 Z)) pc L [.int v] h (some (.inl v, h)) := by
  intro r hr hg
  cases hr
  obtain ⟨g1, g2⟩ := hg
  dsimp only at g1 g2
  refine ⟨by rw [g2]; exact ⟨Nat.le_refl _, Nat.le_refl _⟩, fun X kx H locs ls a1 a2 a3 a4 a5 => ?_⟩
  have C := C X kx
  rw [(E X kx).1, g2]
  exact vx_ret (W.iret C.1 C.2.1 C.2.2.2.2.2.2.1 (fun t ht hW => ⟨g1, by rw [ht]; exact a3⟩) a4.2.2 hd C.2.2.2.2.2.1)
theorem tr_vretX {oX : Option Outcome} (C : Cz G Z cc own nL none) (E : qx_ G Z oX) (hd : decode cc pc = .ok (.return_, 1)) : Tr G Z (gx_ ov_V oX (zx_1 Z)) pc L [] h (some (.inl (), h)) := by
  intro r hr hg
  cases hr
  obtain ⟨g1, g2⟩ := hg
  dsimp only at g1 g2
  refine ⟨by rw [g2]; exact ⟨Nat.le_refl _, Nat.le_refl _⟩, fun X kx H locs ls a1 a2 a3 a4 a5 => ?_⟩
  have C := C X kx
  rw [(E X kx).1, g2]
  exact vx_ret (W.vret C.1 C.2.1 C.2.2.2.2.2.2.1 (fun t ht hW => ⟨g1, by rw [ht]; exact a3⟩) a4.2.2 hd C.2.2.2.2.2.1)
theorem tr_aretX {oX : Option Outcome} {v : Option Nat} {rt : FieldType} (C : Cz G Z cc own nL (some rt)) (E : qx_ G Z oX) (hrt : fk_ rt = 2) (hd : decode cc pc = .ok (.areturn, 1)) : Tr G Z (gx_ (ov_A G) oX (zx_1 Z)) pc L [rf_ G v] h (some (.inl v, h)) := by
  intro r hr hg
  cases hr
  obtain ⟨g1, g2⟩ := hg
  dsimp only at g1 g2
  refine ⟨by rw [g2]; exact ⟨Nat.le_refl _, Nat.le_refl _⟩, fun X kx H locs ls a1 a2 a3 a4 a5 => ?_⟩
  have C := C X kx
  rw [(E X kx).1, g2]
  refine vx_ret (W.aret C.1 C.2.1 C.2.2.2.2.2.2.1 ?_ ?_ (fun t ht hW => ⟨g1, by rw [ht]; exact a3⟩) a4.2.2 hd C.2.2.2.2.2.1)
  · cases rt <;> first | exact Or.inl ⟨_, rfl⟩ | exact Or.inr ⟨_, rfl⟩ | (simp [fk_] at hrt)
  · unfold rf_
    cases rm_ G v with
    | none => exact Or.inl rfl
    | some q => exact Or.inr ⟨q, rfl⟩
/-- throw of a Fault -/
def tw_ {V : Type} (r : Option Nat) (h : ph_t) : Option ((V ⊕ Nat) × ph_t) := r.bind fun a => if ph_T h a = 4 then some (.inr 0, h) else none
theorem tr_athrow {V : Type} {ov : V → Option Value} {x : Option Nat} {rest : List Value} {oX : Option Outcome} (C : Cz G Z cc own nL ret) (E : qx_ G Z oX) (w : gw_ G) (hd : decode cc pc = .ok (.athrow, 1)) : Tr G Z (gx_ ov oX (zx_1 Z)) pc L (rf_ G x :: rest) h (tw_ x h) := by
  intro r hr hg
  unfold tw_ at hr
  obtain ⟨a, rfl, h2⟩ := bind_some_of hr
  split at h2
  · rename_i ha
    cases h2
    have K := tx_out (pc := pc) (L := L) (n := 0) C E (.inr 0, h) rfl hg
    refine ⟨K.1, fun X kx H locs ls a1 a2 a3 a4 a5 => ?_⟩
    have K2 := K.2 X kx
    have C := C X kx
    have kc := kX2 w
    obtain ⟨k1, k2, -⟩ := kc
    have hne : ph_T h a ≠ 99 := by rw [ha]; omega
    have h64 := (a3.2.2.1 a hne).1
    have hce := (a3.2.2.2 a h64).1 (by rw [ha]; exact k1)
    rw [ha] at hce
    obtain ⟨r, r1, cell, q1, q2, q3, q4⟩ := hce
    have hr : r = _ := Option.some.inj (r1.symm.trans k2)
    subst hr
    rw [rf_some h64]
    exact vx_athrow C.1 C.2.1 hd (K2 H locs ls rest _ cell a1 a2 a3 a4 a5 q1 q3 (by rw [q2]; exact (cx_kn C k2).2.1))
  · cases h2
/-- a callee that may throw -/
theorem tr_goX {V : Type} {ov : V → Option Value} {r : (V ⊕ Nat) × ph_t} {st rest : List Value} (C : Cz G Z cc own nL ret) (hm : ph_z h ≤ ph_z r.2 ∧ ph_s h ≤ ph_s r.2)
    (hrun : ∀ X, zx_k Z X → ∀ (H : Heap) (locs : List Loc) (ls : Array Slot), 64 ≤ ph_z h → PR G h H → ls.size = nL → (ph_z h - ph_z (zx_0 Z)) + (ph_z r.2 - ph_z h) ≤ (fx_r X).cells ∧ (ph_s h - ph_s (zx_0 Z)) + (ph_s r.2 - ph_s h) ≤ (fx_r X).slots →
      vx_Run (fx_p X) (fx_l X) (fx_e X) (fx_r X) (fx_s X) (fx_m X) (fx_a X) (fx_b X) (fx_h X) (fx_c X) H locs (ph_z h - ph_z (zx_0 Z)) (ph_s h - ph_s (zx_0 Z)) (ph_z r.2 - ph_z h) (ph_s r.2 - ph_s h) (F0 (fx_m X) pc ls st) rest (fun _ oc t => ox_ ov r.1 = some oc ∧ PR G r.2 t.heap) (xc_ G r.2 (ox_ ov r.1)) (fun q => gv_B G ≤ q))
    (K : ∀ v, r.1 = .inl v → HW G Z (pc + 3) L ((ov v).toList ++ rest) r.2) (KX : ∀ n, r.1 = .inr n → HX G Z pc L r.2) : HW G Z pc L st h := by
  have keep : ∀ X, zx_k Z X → ∀ (H : Heap) (locs : List Loc) (T' : State) (L' : List Loc), PR G h H → va_S (fun q => gv_B G ≤ q) (fx_s X).heap H locs → PR G r.2 T'.heap → (∀ q ∈ L', gv_B G ≤ q.base) → va_S (fun q => gv_B G ≤ q) (fx_s X).heap T'.heap (locs ++ L') := by
    intro X kx H locs T' L' a3 a4 hPR hL
    have z0 := a3.1
    have z1 := hPR.1
    refine ⟨Nat.le_trans a4.1 (by omega), fun q g1 g2 => ?_, fun q hq => ?_⟩
    · rw [hPR.2.1 q (by omega), ← a3.2.1 q (by omega)]
      exact a4.2.1 q g1 g2
    · rcases List.mem_append.mp hq with hq | hq
      · exact a4.2.2 q hq
      · exact hL q hq
  cases hr : r.1 with
  | inl v =>
    obtain ⟨K1, K2⟩ := K v hr
    refine ⟨⟨Nat.le_trans hm.1 K1.1, Nat.le_trans hm.2 K1.2⟩, fun X kx H locs ls a1 a2 a3 a4 a5 => ?_⟩
    have C := C X kx
    have hR := cx_R C
    have h32 : 64 ≤ ph_z h := Nat.le_trans hR.2.2 a1
    intro T hT XX
    rcases hrun X kx H locs ls h32 a3 (by rw [← C.2.2.1]; exact a5.1) ⟨by rw [hR.1]; omega, by rw [hR.2.1]; omega⟩ T hT XX with ⟨v', st₀, t, T', L', h0, X', hL, e1, e2, ⟨q1, q2⟩, go⟩ | ⟨q, st₀, t, T', L', E, ce, h0, X', hL, e1, e2, ⟨q1, -⟩, -⟩
    · rw [hr] at q1
      have hv : v' = ov v := (Outcome.returned.inj (Option.some.inj q1)).symm
      subst hv
      have hPR : PR G r.2 T'.heap := by rw [e1]; exact q2
      have K3 := K2 X kx T'.heap (locs ++ L') ls (Nat.le_trans a1 hm.1) (Nat.le_trans a2 hm.2) hPR (keep X kx H locs T' L' a3 a4 hPR hL) a5
      obtain ⟨t2, b1, b2⟩ := (W.cs (cells := (ph_z h - ph_z (zx_0 Z)) + (ph_z r.2 - ph_z h)) (slots := (ph_s h - ph_s (zx_0 Z)) + (ph_s r.2 - ph_s h)) (by omega) (by omega) K3) T' rfl X'
      exact ⟨t2, go t2 b1, b2⟩
    · rw [hr] at q1
      cases q1
  | inr n =>
    obtain ⟨K1, K2⟩ := KX n hr
    refine ⟨⟨Nat.le_trans hm.1 K1.1, Nat.le_trans hm.2 K1.2⟩, fun X kx H locs ls a1 a2 a3 a4 a5 => ?_⟩
    have C := C X kx
    have hR := cx_R C
    have h32 : 64 ≤ ph_z h := Nat.le_trans hR.2.2 a1
    intro T hT XX
    rcases hrun X kx H locs ls h32 a3 (by rw [← C.2.2.1]; exact a5.1) ⟨by rw [hR.1]; omega, by rw [hR.2.1]; omega⟩ T hT XX with ⟨v', st₀, t, T', L', h0, X', hL, e1, e2, ⟨q1, q2⟩, go⟩ | ⟨q, st₀, t, T', L', E, ce, h0, X', hL, e1, e2, ⟨q1, q2, q3⟩, c1, c2, c3, go⟩
    · rw [hr] at q1
      cases q1
    · have hPR : PR G r.2 T'.heap := by rw [e1]; exact q3
      subst q2
      have K3 := K2 X kx T'.heap (locs ++ L') ls rest q ce (Nat.le_trans a1 hm.1) (Nat.le_trans a2 hm.2) hPR (keep X kx H locs T' L' a3 a4 hPR hL) a5 (by rw [e1]; exact c1) c2 c3
      have ez : (ph_z h - ph_z (zx_0 Z)) + (ph_z r.2 - ph_z h) = ph_z r.2 - ph_z (zx_0 Z) := by omega
      have es : (ph_s h - ph_s (zx_0 Z)) + (ph_s r.2 - ph_s h) = ph_s r.2 - ph_s (zx_0 Z) := by omega
      rw [ez, es] at X'
      obtain ⟨t2, b1, b2⟩ := K3 T' rfl X'
      exact ⟨t2, go.trans b1, b2⟩
end CK
