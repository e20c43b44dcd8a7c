/-! CORE G: contracts and calls -/
def pc_ (G : gv_t) (args : List pa_t) (h : ph_t) : Array Value → State → Prop := va_Pc (args.map (pv_ G)) (fun U => (gv_s G).WarmedH U.vm ∧ 64 ≤ ph_z h ∧ PR G h U.heap)
def Mt (G : gv_t) (y : MethodName) (cc : ByteArray) (nL : Nat) (ret : Option FieldType) (fr lo : Nat) (args : List pa_t) (h h' : ph_t) (oE : Outcome) : Prop :=
  (ph_z h ≤ ph_z h' ∧ ph_s h ≤ ph_s h') ∧ Met (gv_l G) y (ws_ y cc nL ret) { frames := fr, cells := ph_z h' - ph_z h, slots := ph_s h' - ph_s h, locals := lo } (pc_ G args h) (fun _ _ oc t => oc = oE ∧ PR G h' t.heap) (ph_z h' - ph_z h) (ph_s h' - ph_s h) (fun q => gv_B G ≤ q)
def Rz (Z : zx_t) (fr lo : Nat) : Prop := ∀ X, zx_k Z X → (fx_r X).frames = fr ∧ (fx_r X).locals = lo
theorem pc_blind {G : gv_t} {args : List pa_t} {h : ph_t} : FrameBlind (pc_ G args h) := fun _ _ _ _ q => q
/-- what stands at a body's start -/
def zk_ (G : gv_t) (cc : ByteArray) (own : String) (nL : Nat) (ret : Option FieldType) (fr lo : Nat) (h h' : ph_t) (oE : Outcome) (nm : String) : fx_t → Prop := fun X =>
  Cx G (h, h', fun _ => True) X cc own nL ret ∧ ((fx_r X).frames = fr ∧ (fx_r X).locals = lo) ∧ fx_q X = MQ (fx_b X) (fun _ _ oc t => oc = oE ∧ PR G h' t.heap) (fx_a X) (fx_s X) (ph_z h' - ph_z h) (ph_s h' - ph_s h) (fun q => gv_B G ≤ q) ∧ (fx_h X).name = nm
abbrev zz_ (G : gv_t) (cc : ByteArray) (own : String) (nL : Nat) (ret : Option FieldType) (fr lo : Nat) (h h' : ph_t) (oE : Outcome) (nm : String) : zx_t := (h, h', zk_ G cc own nL ret fr lo h h' oE nm)
theorem mt_of {G : gv_t} {y : MethodName} {cc : ByteArray} {own : String} {nL : Nat} {ret : Option FieldType} {fr lo : Nat} {args : List pa_t} {h h' : ph_t} {oE : Outcome} (g : gv_ok G) (hy : plainName y.cls = true) (ho : y.cls = own) (hlen : lz_ args ≤ nL)
    (body : ∀ Z, Z = zz_ G cc own nL ret fr lo h h' oE y.name → Cz G Z cc own nL ret → Rz Z fr lo → qe_ G Z oE → (∀ X, zx_k Z X → (fx_h X).name = y.name) → HW G Z 0 (la_ 0 args) [] h) : Mt G y cc nL ret fr lo args h h' oE := by
  have K := body (zz_ G cc own nL ret fr lo h h' oE y.name) rfl (fun X q => q.1) (fun X q => q.2.1) (fun X q => q.2.2.1) (fun X q => q.2.2.2)
  refine ⟨K.1, Met.ofW (cc := cc) (maxL := nL) (ret := ret) hy rfl ?_⟩
  intro p e s m a below meth c s₁ B hml hv
  obtain ⟨rfl, hW, h32, hP⟩ := hv
  have hts := atoms_spec (ws := ws_ y cc nL ret) B.pre
  have K2 := K.2 (p, gv_l G, e, ({ frames := fr, cells := ph_z h' - ph_z h, slots := ph_s h' - ph_s h, locals := lo } : Room), s, m, (args.map (pv_ G)).toArray, below, meth, c, MQ below (fun _ _ oc t => oc = oE ∧ PR G h' t.heap) (args.map (pv_ G)).toArray s (ph_z h' - ph_z h) (ph_s h' - ph_s h) (fun q => gv_B G ≤ q)) ⟨⟨B.exec, B.bytes, hml, by rw [← ho]; exact findClass_of_methodNamed B.named, fun w hw => hts w (List.mem_cons_of_mem _ hw), B.notSynchronized, B.returns, hW, hP.B h32, g, rfl, rfl, h32, rfl⟩, ⟨rfl, rfl⟩, rfl, (name_of_methodNamed B.named B.method).1⟩ s.heap [] _ (Nat.le_refl _) (Nat.le_refl _) hP va_S.rf (by rw [show c.maxLocals = nL from hml]; rw [← la_eq]; exact lv_entry (args.map (pv_ G)) (by rw [lz_eq]; exact hlen))
  rw [Nat.sub_self, Nat.sub_self] at K2
  rw [lg_entry_eq]
  exact K2
/-- .. for a start that the counts allow alone (where they don't, there is nothing to show: the pure side's counts never fall) -/
theorem tr_go {V : Type} {G : gv_t} {Z : zx_t} {ov : V → Option Value} {r : V × ph_t} {pc : Nat} {L : lo_t} {st rest : List Value} {h : ph_t} {cc : ByteArray} {own : String} {nL : Nat} {ret : Option FieldType} (C : Cz G Z cc own nL ret) (hm : ph_z h ≤ ph_z r.2 ∧ ph_s h ≤ ph_s r.2)
    (hrun : ∀ X, zx_k Z X → ∀ (H : Heap) (locs : List Loc) (ls : Array Slot), 64 ≤ ph_z h → PR G h H → ls.size = nL → (ph_z h - ph_z (zx_0 Z)) + (ph_z r.2 - ph_z h) ≤ (fx_r X).cells ∧ (ph_s h - ph_s (zx_0 Z)) + (ph_s r.2 - ph_s h) ≤ (fx_r X).slots →
      va_Run (fx_p X) (fx_l X) (fx_e X) (fx_r X) (fx_s X) (fx_m X) (fx_a X) (fx_b X) (fx_h X) (fx_c X) H locs (ph_z h - ph_z (zx_0 Z)) (ph_s h - ph_s (zx_0 Z)) (ph_z r.2 - ph_z h) (ph_s r.2 - ph_s h) (F0 (fx_m X) pc ls st) rest (fun _ oc t => oc = .returned (ov r.1) ∧ PR G r.2 t.heap) (fun q => gv_B G ≤ q))
    (K : HW G Z (pc + 3) L ((ov r.1).toList ++ rest) r.2) : HW G Z pc L st h := by
  obtain ⟨K1, K2⟩ := K
  refine ⟨⟨Nat.le_trans hm.1 K1.1, Nat.le_trans hm.2 K1.2⟩, fun X kx H locs ls a1 a2 a3 a4 a5 => ?_⟩
  have C := C X kx
  have hR := cx_R C
  have h32 : 64 ≤ ph_z h := Nat.le_trans hR.2.2 a1
  intro T hT XX
  obtain ⟨v, st₀, t, T', L', h0, X', hL, e1, e2, ⟨q1, q2⟩, go⟩ := hrun X kx H locs ls h32 a3 (by rw [← C.2.2.1]; exact a5.1) ⟨by rw [hR.1]; omega, by rw [hR.2.1]; omega⟩ T hT XX
  have hv : v = ov r.1 := Outcome.returned.inj q1
  subst hv
  have hPR : PR G r.2 T'.heap := by rw [e1]; exact q2
  have hS : va_S (fun q => gv_B G ≤ q) (fx_s X).heap T'.heap (locs ++ L') := by
    have z0 := a3.1
    have z1 := hPR.1
    refine ⟨Nat.le_trans a4.1 (by omega), fun q g1 g2 => ?_, fun q hq => ?_⟩
    · rw [hPR.2.1 q (by omega), ← a3.2.1 q (by omega)]
      exact a4.2.1 q g1 g2
    · rcases List.mem_append.mp hq with hq | hq
      · exact a4.2.2 q hq
      · exact hL q hq
  have K3 := K2 X kx T'.heap (locs ++ L') ls (Nat.le_trans a1 hm.1) (Nat.le_trans a2 hm.2) hPR hS a5
  obtain ⟨t2, b1, b2⟩ := (W.cs (cells := (ph_z h - ph_z (zx_0 Z)) + (ph_z r.2 - ph_z h)) (slots := (ph_s h - ph_s (zx_0 Z)) + (ph_s r.2 - ph_s h)) (by omega) (by omega) K3) T' rfl X'
  exact ⟨t2, go t2 b1, b2⟩
theorem dv_some {h : ph_t} {x : Option Nat} {c a : Nat} (e : dv_ h x c = some a) : x = some a ∧ ph_T h a = c := by
  unfold dv_ at e
  cases x with
  | none => cases e
  | some b =>
    simp only [Option.bind_some] at e
    split at e
    · cases e
      exact ⟨rfl, by assumption⟩
    · cases e
theorem pc_at {G : gv_t} {Z : zx_t} {X : fx_t} {cc : ByteArray} {own : String} {nL : Nat} {ret : Option FieldType} {h : ph_t} {H : Heap} {As : List pa_t} (C : Cx G Z X cc own nL ret) (h32 : 64 ≤ ph_z h) (P : PR G h H) : ∀ U : State, U.heap = H → (fx_s X).WarmedH U.vm → pc_ G As h (As.map (pv_ G)).toArray U := by
  intro U hU hW
  obtain ⟨-, -, -, -, -, -, -, hW0, -⟩ := C
  exact ⟨rfl, State.WarmedH.trans hW0 hW, h32, by rw [hU]; exact P⟩
theorem pc_av {G : gv_t} {Z : zx_t} {X : fx_t} {cc : ByteArray} {own : String} {nL : Nat} {ret : Option FieldType} {h : ph_t} {H : Heap} {As : List pa_t} {a : Nat} (C : Cx G Z X cc own nL ret) (h32 : 64 ≤ ph_z h) (P : PR G h H) (h9 : 64 ≤ a) : ∀ U : State, U.heap = H → (fx_s X).WarmedH U.vm → pc_ G ((.inr <| .inr (some a)) :: As) h (Value.ref (gv_B G + (a - 64)) :: As.map (pv_ G)).toArray U := by
  have e : (((.inr <| .inr (some a)) :: As : List pa_t).map (pv_ G)) = Value.ref (gv_B G + (a - 64)) :: As.map (pv_ G) := by
    rw [List.map_cons, show pv_ G (.inr <| .inr (some a)) = _ from rf_some h9]
  rw [← e]
  exact pc_at C h32 P
theorem cx_recv {G : gv_t} {Z : zx_t} {X : fx_t} {cc : ByteArray} {own : String} {nL : Nat} {ret : Option FieldType} {h : ph_t} {H : Heap} {c N a : Nat} {Cn : String} {Tb : u_T} {ty : Nat → FieldType} (C : Cx G Z X cc own nL ret) (kc : kc_ G c Cn Tb N ty) (ha : ph_T h a = c) (P : PR G h H) : 64 ≤ a ∧ ∃ cell : Cell, H[gv_B G + (a - 64)]? = some cell ∧ cell.vm.isStatics = false ∧ (fx_s X).vm.findClass Cn = some cell.cls := by
  obtain ⟨k1, k2, -⟩ := kc
  have hne : ph_T h a ≠ 99 := by rw [ha]; omega
  have h32 := (P.2.2.1 a hne).1
  have hce := (P.2.2.2 a h32).1 (by rw [ha]; exact k1)
  rw [ha] at hce
  obtain ⟨r, r1, cell, q1, q2, q3, q4⟩ := hce
  have hr : r = (Cn, Tb, N) := Option.some.inj (r1.symm.trans k2)
  subst hr
  exact ⟨h32, cell, q1, by rw [q3]; rfl, by rw [q2]; exact (cx_kn C k2).2.1⟩
theorem F0_room {m : MethodId} {pc : Nat} {ls : Array Slot} {st rest : List Value} (h : (rest.map fun v => v.category).sum ≤ 8) : 2 * (F0 m pc ls st).monitorRoom + (rest.map fun v => v.category).sum ≤ 8 := by
  have : (F0 m pc ls st).monitorRoom = 0 := rfl
  omega
theorem cx_hts {G : gv_t} {Z : zx_t} {X : fx_t} {cc : ByteArray} {own : String} {nL : Nat} {ret : Option FieldType} (C : Cx G Z X cc own nL ret) : ∀ w ∈ lw_all, w.before (fx_a X) (fx_s X) = true := C.2.2.2.2.1
theorem cx_nm {G : gv_t} {Z : zx_t} {X : fx_t} {cc : ByteArray} {own : String} {nL : Nat} {ret : Option FieldType} (C : Cx G Z X cc own nL ret) {a : String} {i : Nat} {x : MethodName} {b : String} (h : Cond.methodLinkNest a i x b ∈ lw_tbl) : va_Nw (.methodLinkNest a i x b) (fx_s X) := by
  obtain ⟨n1, n2⟩ := cx_nw C h rfl
  exact va_Nw.warmM n2 n1
theorem cx_nd {G : gv_t} {Z : zx_t} {X : fx_t} {cc : ByteArray} {own : String} {nL : Nat} {ret : Option FieldType} (C : Cx G Z X cc own nL ret) {x : MethodName} (h : Cond.declares x ∈ lw_tbl) : va_Nw (.declares x) (fx_s X) := by
  obtain ⟨n1, n2⟩ := cx_nw C h rfl
  exact va_Nw.warmD n2 n1
theorem tr_callVI {T : Type} {G : gv_t} {Z : zx_t} {Gd : T → Prop} {cc : ByteArray} {own : String} {nL : Nat} {ret : Option FieldType} {pc : Nat} {L : lo_t} {h : ph_t} {fr lo : Nat} {y : MethodName} {cc2 : ByteArray} {nL2 : Nat} {ret2 : Option FieldType} {fr2 lo2 idx n : Nat} {c N : Nat} {Tb : u_T} {ty : Nat → FieldType} {As : List pa_t} {rest : List Value} {x : Option Nat} {st : List Value} {f : Nat → Option (Int32 × ph_t)} {o : Int32 × ph_t → Option T} (C : Cz G Z cc own nL ret) (Rm : Rz Z fr lo) (pc' : Nat) (hp : pc + 3 = pc') (hd : decode cc pc = .ok (.invokevirtual idx, 3)) {Cn : String} (hG : GoodIn lw_all (wsV own idx Cn y (ws_ y cc2 nL2 ret2))) (kc : kc_ G c Cn Tb N ty) (hy : y.cls = Cn ∧ y.cls ≠ "java/lang/invoke/MethodHandle" ∧ y.cls ≠ "java/lang/invoke/VarHandle" ∧ (parseMethodDescriptor y.desc).map (fun d => d.parameters.length) = some n) (hn : As.length = n) (hR : fr2 + 1 ≤ fr ∧ 8 + (nL2 + 11) + lo2 ≤ lo) (hst : st = (As.map (pv_ G)).reverse ++ rf_ G x :: rest) (hrest : (rest.map fun v => v.category).sum ≤ 8) (M : ∀ a (r : Int32 × ph_t), f a = some r → Mt G y cc2 nL2 ret2 fr2 lo2 ((.inr <| .inr (some a)) :: As) h r.2 (.returned (ov_I r.1)))
    (k : ∀ r : Int32 × ph_t, Tr G Z Gd pc' L (.int r.1 :: rest) r.2 (o r)) : Tr G Z Gd pc L st h ((dv_ h x c).bind fun a => (f a).bind o) := by
  subst hp
  intro r hr hg
  obtain ⟨a, h1, h2⟩ := bind_some_of hr
  obtain ⟨q, h3, h4⟩ := bind_some_of h2
  obtain ⟨rfl, h5⟩ := dv_some h1
  have K := k q r h4 hg
  obtain ⟨m1, m2⟩ := M a q h3
  refine tr_go (ov := ov_I) (r := q) (rest := rest) C m1 (fun X kx H locs ls h32 P hsz hcs => ?_) K
  have C := C X kx
  rw [← cx_l C] at m2
  obtain ⟨h9, hcell⟩ := cx_recv C kc h5 P
  rw [rf_some h9] at hst
  exact va_runV ⟨C.1, C.2.1, C.2.2.1, C.2.2.2.1, C.2.2.2.2.1⟩ m2 (cwV n (cx_hts C) hG rfl rfl rfl hy (by rw [(Rm X kx).1, (Rm X kx).2]; exact hR)) ⟨pc_blind, hcell, pc_av C h32 P h9⟩ rfl (by rw [List.length_map]; exact hn) hsz hst (F0_room hrest) hd hcs
theorem tr_callVNI {T : Type} {G : gv_t} {Z : zx_t} {Gd : T → Prop} {cc : ByteArray} {own : String} {nL : Nat} {ret : Option FieldType} {pc : Nat} {L : lo_t} {h : ph_t} {fr lo : Nat} {y : MethodName} {cc2 : ByteArray} {nL2 : Nat} {ret2 : Option FieldType} {fr2 lo2 idx n : Nat} {c N : Nat} {Tb : u_T} {ty : Nat → FieldType} {As : List pa_t} {rest : List Value} {x : Option Nat} {st : List Value} {f : Nat → Option (Int32 × ph_t)} {o : Int32 × ph_t → Option T} (C : Cz G Z cc own nL ret) (Rm : Rz Z fr lo) (pc' : Nat) (hp : pc + 3 = pc') (hd : decode cc pc = .ok (.invokevirtual idx, 3)) {Cn host : String} (hG : GoodIn lw_all (ws_ y cc2 nL2 ret2)) (hl : Cond.methodLinkNest own idx y host ∈ lw_tbl) (hini : Cond.initialized y.cls ∈ lw_all) (hin : Cond.instanceMethod y ∈ lw_all) (hse : Cond.selects Cn y y ∈ lw_all) (kc : kc_ G c Cn Tb N ty) (hy : y.cls ≠ "java/lang/invoke/MethodHandle" ∧ y.cls ≠ "java/lang/invoke/VarHandle" ∧ (parseMethodDescriptor y.desc).map (fun d => d.parameters.length) = some n) (hn : As.length = n) (hR : fr2 + 1 ≤ fr ∧ 8 + (nL2 + 11) + lo2 ≤ lo) (hst : st = (As.map (pv_ G)).reverse ++ rf_ G x :: rest) (hrest : (rest.map fun v => v.category).sum ≤ 8) (M : ∀ a (r : Int32 × ph_t), f a = some r → Mt G y cc2 nL2 ret2 fr2 lo2 ((.inr <| .inr (some a)) :: As) h r.2 (.returned (ov_I r.1)))
    (k : ∀ r : Int32 × ph_t, Tr G Z Gd pc' L (.int r.1 :: rest) r.2 (o r)) : Tr G Z Gd pc L st h ((dv_ h x c).bind fun a => (f a).bind o) := by
  subst hp
  intro r hr hg
  obtain ⟨a, h1, h2⟩ := bind_some_of hr
  obtain ⟨q, h3, h4⟩ := bind_some_of h2
  obtain ⟨rfl, h5⟩ := dv_some h1
  have K := k q r h4 hg
  obtain ⟨m1, m2⟩ := M a q h3
  refine tr_go (ov := ov_I) (r := q) (rest := rest) C m1 (fun X kx H locs ls h32 P hsz hcs => ?_) K
  have C := C X kx
  rw [← cx_l C] at m2
  obtain ⟨h9, hcell⟩ := cx_recv C kc h5 P
  rw [rf_some h9] at hst
  exact va_runVN ⟨C.1, C.2.1, C.2.2.1, C.2.2.2.1, C.2.2.2.2.1⟩ m2 ⟨va_cnB n (cx_hts C) hG rfl rfl rfl (cx_nm C hl) (cx_w C hini) hy (by rw [(Rm X kx).1, (Rm X kx).2]; exact hR), cx_w C hin, cx_w C hse⟩ ⟨pc_blind, hcell, pc_av C h32 P h9⟩ rfl (by rw [List.length_map]; exact hn) hsz hst (F0_room hrest) hd hcs
theorem tr_callUI {T : Type} {G : gv_t} {Z : zx_t} {Gd : T → Prop} {cc : ByteArray} {own : String} {nL : Nat} {ret : Option FieldType} {pc : Nat} {L : lo_t} {h : ph_t} {fr lo : Nat} {y : MethodName} {cc2 : ByteArray} {nL2 : Nat} {ret2 : Option FieldType} {fr2 lo2 idx n : Nat} {c N : Nat} {Tb : u_T} {ty : Nat → FieldType} {As : List pa_t} {rest : List Value} {x : Option Nat} {st : List Value} {f : Nat → Option (Int32 × ph_t)} {o : Int32 × ph_t → Option T} (C : Cz G Z cc own nL ret) (Rm : Rz Z fr lo) (pc' : Nat) (hp : pc + 3 = pc') (hd : decode cc pc = .ok (.invokevirtual idx, 3)) {Cn owner : String} {xm : MethodName} (hG : GoodIn lw_all (va_wsU own idx Cn owner xm y (ws_ y cc2 nL2 ret2))) (hz : Cond.declares ⟨owner, xm.name, xm.desc⟩ ∈ lw_tbl) (kc : kc_ G c Cn Tb N ty) (hy : owner ≠ "java/lang/invoke/MethodHandle" ∧ owner ≠ "java/lang/invoke/VarHandle" ∧ (parseMethodDescriptor xm.desc).map (fun d => d.parameters.length) = some n) (hn : As.length = n) (hR : fr2 + 1 ≤ fr ∧ 8 + (nL2 + 11) + lo2 ≤ lo) (hst : st = (As.map (pv_ G)).reverse ++ rf_ G x :: rest) (hrest : (rest.map fun v => v.category).sum ≤ 8) (M : ∀ a (r : Int32 × ph_t), f a = some r → Mt G y cc2 nL2 ret2 fr2 lo2 ((.inr <| .inr (some a)) :: As) h r.2 (.returned (ov_I r.1)))
    (k : ∀ r : Int32 × ph_t, Tr G Z Gd pc' L (.int r.1 :: rest) r.2 (o r)) : Tr G Z Gd pc L st h ((dv_ h x c).bind fun a => (f a).bind o) := by
  subst hp
  intro r hr hg
  obtain ⟨a, h1, h2⟩ := bind_some_of hr
  obtain ⟨q, h3, h4⟩ := bind_some_of h2
  obtain ⟨rfl, h5⟩ := dv_some h1
  have K := k q r h4 hg
  obtain ⟨m1, m2⟩ := M a q h3
  refine tr_go (ov := ov_I) (r := q) (rest := rest) C m1 (fun X kx H locs ls h32 P hsz hcs => ?_) K
  have C := C X kx
  rw [← cx_l C] at m2
  obtain ⟨h9, hcell⟩ := cx_recv C kc h5 P
  rw [rf_some h9] at hst
  exact va_runU ⟨C.1, C.2.1, C.2.2.1, C.2.2.2.1, C.2.2.2.2.1⟩ m2 (va_cwA n (cx_hts C) hG rfl rfl rfl (cx_nd C hz) hy (by rw [(Rm X kx).1, (Rm X kx).2]; exact hR)) ⟨pc_blind, hcell, pc_av C h32 P h9⟩ rfl (by rw [List.length_map]; exact hn) hsz hst (F0_room hrest) hd hcs
theorem tr_callSI {T : Type} {G : gv_t} {Z : zx_t} {Gd : T → Prop} {cc : ByteArray} {own : String} {nL : Nat} {ret : Option FieldType} {pc : Nat} {L : lo_t} {h : ph_t} {fr lo : Nat} {y : MethodName} {cc2 : ByteArray} {nL2 : Nat} {ret2 : Option FieldType} {fr2 lo2 idx n : Nat} {As : List pa_t} {rest : List Value} {st : List Value} {f : Option (Int32 × ph_t)} {o : Int32 × ph_t → Option T} (C : Cz G Z cc own nL ret) (Rm : Rz Z fr lo) (pc' : Nat) (hp : pc + 3 = pc') (hd : decode cc pc = .ok (.invokestatic idx, 3)) (hG : GoodIn lw_all (va_wsS own idx y (ws_ y cc2 nL2 ret2))) (hy : y.cls ≠ "java/lang/invoke/MethodHandle" ∧ y.cls ≠ "java/lang/invoke/VarHandle" ∧ (parseMethodDescriptor y.desc).map (fun d => d.parameters.length) = some n) (hn : As.length = n) (hR : fr2 + 1 ≤ fr ∧ 8 + (nL2 + 11) + lo2 ≤ lo) (hst : st = (As.map (pv_ G)).reverse ++ rest) (hrest : (rest.map fun v => v.category).sum ≤ 8) (M : ∀ (r : Int32 × ph_t), f = some r → Mt G y cc2 nL2 ret2 fr2 lo2 As h r.2 (.returned (ov_I r.1)))
    (k : ∀ r : Int32 × ph_t, Tr G Z Gd pc' L (.int r.1 :: rest) r.2 (o r)) : Tr G Z Gd pc L st h (f.bind o) := by
  subst hp
  intro r hr hg
  obtain ⟨q, h3, h4⟩ := bind_some_of hr
  have K := k q r h4 hg
  obtain ⟨m1, m2⟩ := M q h3
  refine tr_go (ov := ov_I) (r := q) (rest := rest) C m1 (fun X kx H locs ls h32 P hsz hcs => ?_) K
  have C := C X kx
  rw [← cx_l C] at m2
  exact va_runS ⟨C.1, C.2.1, C.2.2.1, C.2.2.2.1, C.2.2.2.2.1⟩ m2 (va_cwS n (cx_hts C) hG rfl rfl rfl hy (by rw [(Rm X kx).1, (Rm X kx).2]; exact hR)) ⟨pc_blind, pc_at C h32 P⟩ rfl (by rw [List.length_map]; exact hn) hsz hst (F0_room hrest) hd hcs
theorem tr_callSNI {T : Type} {G : gv_t} {Z : zx_t} {Gd : T → Prop} {cc : ByteArray} {own : String} {nL : Nat} {ret : Option FieldType} {pc : Nat} {L : lo_t} {h : ph_t} {fr lo : Nat} {y : MethodName} {cc2 : ByteArray} {nL2 : Nat} {ret2 : Option FieldType} {fr2 lo2 idx n : Nat} {As : List pa_t} {rest : List Value} {st : List Value} {f : Option (Int32 × ph_t)} {o : Int32 × ph_t → Option T} (C : Cz G Z cc own nL ret) (Rm : Rz Z fr lo) (pc' : Nat) (hp : pc + 3 = pc') (hd : decode cc pc = .ok (.invokestatic idx, 3)) {host : String} (hG : GoodIn lw_all (ws_ y cc2 nL2 ret2)) (hl : Cond.methodLinkNest own idx y host ∈ lw_tbl) (hini : Cond.initialized y.cls ∈ lw_all) (hsta : Cond.static y ∈ lw_all) (hy : y.cls ≠ "java/lang/invoke/MethodHandle" ∧ y.cls ≠ "java/lang/invoke/VarHandle" ∧ (parseMethodDescriptor y.desc).map (fun d => d.parameters.length) = some n) (hn : As.length = n) (hR : fr2 + 1 ≤ fr ∧ 8 + (nL2 + 11) + lo2 ≤ lo) (hst : st = (As.map (pv_ G)).reverse ++ rest) (hrest : (rest.map fun v => v.category).sum ≤ 8) (M : ∀ (r : Int32 × ph_t), f = some r → Mt G y cc2 nL2 ret2 fr2 lo2 As h r.2 (.returned (ov_I r.1)))
    (k : ∀ r : Int32 × ph_t, Tr G Z Gd pc' L (.int r.1 :: rest) r.2 (o r)) : Tr G Z Gd pc L st h (f.bind o) := by
  subst hp
  intro r hr hg
  obtain ⟨q, h3, h4⟩ := bind_some_of hr
  have K := k q r h4 hg
  obtain ⟨m1, m2⟩ := M q h3
  refine tr_go (ov := ov_I) (r := q) (rest := rest) C m1 (fun X kx H locs ls h32 P hsz hcs => ?_) K
  have C := C X kx
  rw [← cx_l C] at m2
  exact va_runSN ⟨C.1, C.2.1, C.2.2.1, C.2.2.2.1, C.2.2.2.2.1⟩ m2 ⟨va_cnB n (cx_hts C) hG rfl rfl rfl (cx_nm C hl) (cx_w C hini) hy (by rw [(Rm X kx).1, (Rm X kx).2]; exact hR), cx_w C hsta, trivial⟩ ⟨pc_blind, pc_at C h32 P⟩ rfl (by rw [List.length_map]; exact hn) hsz hst (F0_room hrest) hd hcs
theorem tr_callVJ {T : Type} {G : gv_t} {Z : zx_t} {Gd : T → Prop} {cc : ByteArray} {own : String} {nL : Nat} {ret : Option FieldType} {pc : Nat} {L : lo_t} {h : ph_t} {fr lo : Nat} {y : MethodName} {cc2 : ByteArray} {nL2 : Nat} {ret2 : Option FieldType} {fr2 lo2 idx n : Nat} {c N : Nat} {Tb : u_T} {ty : Nat → FieldType} {As : List pa_t} {rest : List Value} {x : Option Nat} {st : List Value} {f : Nat → Option (Int64 × ph_t)} {o : Int64 × ph_t → Option T} (C : Cz G Z cc own nL ret) (Rm : Rz Z fr lo) (pc' : Nat) (hp : pc + 3 = pc') (hd : decode cc pc = .ok (.invokevirtual idx, 3)) {Cn : String} (hG : GoodIn lw_all (wsV own idx Cn y (ws_ y cc2 nL2 ret2))) (kc : kc_ G c Cn Tb N ty) (hy : y.cls = Cn ∧ y.cls ≠ "java/lang/invoke/MethodHandle" ∧ y.cls ≠ "java/lang/invoke/VarHandle" ∧ (parseMethodDescriptor y.desc).map (fun d => d.parameters.length) = some n) (hn : As.length = n) (hR : fr2 + 1 ≤ fr ∧ 8 + (nL2 + 11) + lo2 ≤ lo) (hst : st = (As.map (pv_ G)).reverse ++ rf_ G x :: rest) (hrest : (rest.map fun v => v.category).sum ≤ 8) (M : ∀ a (r : Int64 × ph_t), f a = some r → Mt G y cc2 nL2 ret2 fr2 lo2 ((.inr <| .inr (some a)) :: As) h r.2 (.returned (ov_J r.1)))
    (k : ∀ r : Int64 × ph_t, Tr G Z Gd pc' L (.long r.1 :: rest) r.2 (o r)) : Tr G Z Gd pc L st h ((dv_ h x c).bind fun a => (f a).bind o) := by
  subst hp
  intro r hr hg
  obtain ⟨a, h1, h2⟩ := bind_some_of hr
  obtain ⟨q, h3, h4⟩ := bind_some_of h2
  obtain ⟨rfl, h5⟩ := dv_some h1
  have K := k q r h4 hg
  obtain ⟨m1, m2⟩ := M a q h3
  refine tr_go (ov := ov_J) (r := q) (rest := rest) C m1 (fun X kx H locs ls h32 P hsz hcs => ?_) K
  have C := C X kx
  rw [← cx_l C] at m2
  obtain ⟨h9, hcell⟩ := cx_recv C kc h5 P
  rw [rf_some h9] at hst
  exact va_runV ⟨C.1, C.2.1, C.2.2.1, C.2.2.2.1, C.2.2.2.2.1⟩ m2 (cwV n (cx_hts C) hG rfl rfl rfl hy (by rw [(Rm X kx).1, (Rm X kx).2]; exact hR)) ⟨pc_blind, hcell, pc_av C h32 P h9⟩ rfl (by rw [List.length_map]; exact hn) hsz hst (F0_room hrest) hd hcs
theorem tr_callVNJ {T : Type} {G : gv_t} {Z : zx_t} {Gd : T → Prop} {cc : ByteArray} {own : String} {nL : Nat} {ret : Option FieldType} {pc : Nat} {L : lo_t} {h : ph_t} {fr lo : Nat} {y : MethodName} {cc2 : ByteArray} {nL2 : Nat} {ret2 : Option FieldType} {fr2 lo2 idx n : Nat} {c N : Nat} {Tb : u_T} {ty : Nat → FieldType} {As : List pa_t} {rest : List Value} {x : Option Nat} {st : List Value} {f : Nat → Option (Int64 × ph_t)} {o : Int64 × ph_t → Option T} (C : Cz G Z cc own nL ret) (Rm : Rz Z fr lo) (pc' : Nat) (hp : pc + 3 = pc') (hd : decode cc pc = .ok (.invokevirtual idx, 3)) {Cn host : String} (hG : GoodIn lw_all (ws_ y cc2 nL2 ret2)) (hl : Cond.methodLinkNest own idx y host ∈ lw_tbl) (hini : Cond.initialized y.cls ∈ lw_all) (hin : Cond.instanceMethod y ∈ lw_all) (hse : Cond.selects Cn y y ∈ lw_all) (kc : kc_ G c Cn Tb N ty) (hy : y.cls ≠ "java/lang/invoke/MethodHandle" ∧ y.cls ≠ "java/lang/invoke/VarHandle" ∧ (parseMethodDescriptor y.desc).map (fun d => d.parameters.length) = some n) (hn : As.length = n) (hR : fr2 + 1 ≤ fr ∧ 8 + (nL2 + 11) + lo2 ≤ lo) (hst : st = (As.map (pv_ G)).reverse ++ rf_ G x :: rest) (hrest : (rest.map fun v => v.category).sum ≤ 8) (M : ∀ a (r : Int64 × ph_t), f a = some r → Mt G y cc2 nL2 ret2 fr2 lo2 ((.inr <| .inr (some a)) :: As) h r.2 (.returned (ov_J r.1)))
    (k : ∀ r : Int64 × ph_t, Tr G Z Gd pc' L (.long r.1 :: rest) r.2 (o r)) : Tr G Z Gd pc L st h ((dv_ h x c).bind fun a => (f a).bind o) := by
  subst hp
  intro r hr hg
  obtain ⟨a, h1, h2⟩ := bind_some_of hr
  obtain ⟨q, h3, h4⟩ := bind_some_of h2
  obtain ⟨rfl, h5⟩ := dv_some h1
  have K := k q r h4 hg
  obtain ⟨m1, m2⟩ := M a q h3
  refine tr_go (ov := ov_J) (r := q) (rest := rest) C m1 (fun X kx H locs ls h32 P hsz hcs => ?_) K
  have C := C X kx
  rw [← cx_l C] at m2
  obtain ⟨h9, hcell⟩ := cx_recv C kc h5 P
  rw [rf_some h9] at hst
  exact va_runVN ⟨C.1, C.2.1, C.2.2.1, C.2.2.2.1, C.2.2.2.2.1⟩ m2 ⟨va_cnB n (cx_hts C) hG rfl rfl rfl (cx_nm C hl) (cx_w C hini) hy (by rw [(Rm X kx).1, (Rm X kx).2]; exact hR), cx_w C hin, cx_w C hse⟩ ⟨pc_blind, hcell, pc_av C h32 P h9⟩ rfl (by rw [List.length_map]; exact hn) hsz hst (F0_room hrest) hd hcs
theorem tr_callUJ {T : Type} {G : gv_t} {Z : zx_t} {Gd : T → Prop} {cc : ByteArray} {own : String} {nL : Nat} {ret : Option FieldType} {pc : Nat} {L : lo_t} {h : ph_t} {fr lo : Nat} {y : MethodName} {cc2 : ByteArray} {nL2 : Nat} {ret2 : Option FieldType} {fr2 lo2 idx n : Nat} {c N : Nat} {Tb : u_T} {ty : Nat → FieldType} {As : List pa_t} {rest : List Value} {x : Option Nat} {st : List Value} {f : Nat → Option (Int64 × ph_t)} {o : Int64 × ph_t → Option T} (C : Cz G Z cc own nL ret) (Rm : Rz Z fr lo) (pc' : Nat) (hp : pc + 3 = pc') (hd : decode cc pc = .ok (.invokevirtual idx, 3)) {Cn owner : String} {xm : MethodName} (hG : GoodIn lw_all (va_wsU own idx Cn owner xm y (ws_ y cc2 nL2 ret2))) (hz : Cond.declares ⟨owner, xm.name, xm.desc⟩ ∈ lw_tbl) (kc : kc_ G c Cn Tb N ty) (hy : owner ≠ "java/lang/invoke/MethodHandle" ∧ owner ≠ "java/lang/invoke/VarHandle" ∧ (parseMethodDescriptor xm.desc).map (fun d => d.parameters.length) = some n) (hn : As.length = n) (hR : fr2 + 1 ≤ fr ∧ 8 + (nL2 + 11) + lo2 ≤ lo) (hst : st = (As.map (pv_ G)).reverse ++ rf_ G x :: rest) (hrest : (rest.map fun v => v.category).sum ≤ 8) (M : ∀ a (r : Int64 × ph_t), f a = some r → Mt G y cc2 nL2 ret2 fr2 lo2 ((.inr <| .inr (some a)) :: As) h r.2 (.returned (ov_J r.1)))
    (k : ∀ r : Int64 × ph_t, Tr G Z Gd pc' L (.long r.1 :: rest) r.2 (o r)) : Tr G Z Gd pc L st h ((dv_ h x c).bind fun a => (f a).bind o) := by
  subst hp
  intro r hr hg
  obtain ⟨a, h1, h2⟩ := bind_some_of hr
  obtain ⟨q, h3, h4⟩ := bind_some_of h2
  obtain ⟨rfl, h5⟩ := dv_some h1
  have K := k q r h4 hg
  obtain ⟨m1, m2⟩ := M a q h3
  refine tr_go (ov := ov_J) (r := q) (rest := rest) C m1 (fun X kx H locs ls h32 P hsz hcs => ?_) K
  have C := C X kx
  rw [← cx_l C] at m2
  obtain ⟨h9, hcell⟩ := cx_recv C kc h5 P
  rw [rf_some h9] at hst
  exact va_runU ⟨C.1, C.2.1, C.2.2.1, C.2.2.2.1, C.2.2.2.2.1⟩ m2 (va_cwA n (cx_hts C) hG rfl rfl rfl (cx_nd C hz) hy (by rw [(Rm X kx).1, (Rm X kx).2]; exact hR)) ⟨pc_blind, hcell, pc_av C h32 P h9⟩ rfl (by rw [List.length_map]; exact hn) hsz hst (F0_room hrest) hd hcs
theorem tr_callSJ {T : Type} {G : gv_t} {Z : zx_t} {Gd : T → Prop} {cc : ByteArray} {own : String} {nL : Nat} {ret : Option FieldType} {pc : Nat} {L : lo_t} {h : ph_t} {fr lo : Nat} {y : MethodName} {cc2 : ByteArray} {nL2 : Nat} {ret2 : Option FieldType} {fr2 lo2 idx n : Nat} {As : List pa_t} {rest : List Value} {st : List Value} {f : Option (Int64 × ph_t)} {o : Int64 × ph_t → Option T} (C : Cz G Z cc own nL ret) (Rm : Rz Z fr lo) (pc' : Nat) (hp : pc + 3 = pc') (hd : decode cc pc = .ok (.invokestatic idx, 3)) (hG : GoodIn lw_all (va_wsS own idx y (ws_ y cc2 nL2 ret2))) (hy : y.cls ≠ "java/lang/invoke/MethodHandle" ∧ y.cls ≠ "java/lang/invoke/VarHandle" ∧ (parseMethodDescriptor y.desc).map (fun d => d.parameters.length) = some n) (hn : As.length = n) (hR : fr2 + 1 ≤ fr ∧ 8 + (nL2 + 11) + lo2 ≤ lo) (hst : st = (As.map (pv_ G)).reverse ++ rest) (hrest : (rest.map fun v => v.category).sum ≤ 8) (M : ∀ (r : Int64 × ph_t), f = some r → Mt G y cc2 nL2 ret2 fr2 lo2 As h r.2 (.returned (ov_J r.1)))
    (k : ∀ r : Int64 × ph_t, Tr G Z Gd pc' L (.long r.1 :: rest) r.2 (o r)) : Tr G Z Gd pc L st h (f.bind o) := by
  subst hp
  intro r hr hg
  obtain ⟨q, h3, h4⟩ := bind_some_of hr
  have K := k q r h4 hg
  obtain ⟨m1, m2⟩ := M q h3
  refine tr_go (ov := ov_J) (r := q) (rest := rest) C m1 (fun X kx H locs ls h32 P hsz hcs => ?_) K
  have C := C X kx
  rw [← cx_l C] at m2
  exact va_runS ⟨C.1, C.2.1, C.2.2.1, C.2.2.2.1, C.2.2.2.2.1⟩ m2 (va_cwS n (cx_hts C) hG rfl rfl rfl hy (by rw [(Rm X kx).1, (Rm X kx).2]; exact hR)) ⟨pc_blind, pc_at C h32 P⟩ rfl (by rw [List.length_map]; exact hn) hsz hst (F0_room hrest) hd hcs
theorem tr_callSNJ {T : Type} {G : gv_t} {Z : zx_t} {Gd : T → Prop} {cc : ByteArray} {own : String} {nL : Nat} {ret : Option FieldType} {pc : Nat} {L : lo_t} {h : ph_t} {fr lo : Nat} {y : MethodName} {cc2 : ByteArray} {nL2 : Nat} {ret2 : Option FieldType} {fr2 lo2 idx n : Nat} {As : List pa_t} {rest : List Value} {st : List Value} {f : Option (Int64 × ph_t)} {o : Int64 × ph_t → Option T} (C : Cz G Z cc own nL ret) (Rm : Rz Z fr lo) (pc' : Nat) (hp : pc + 3 = pc') (hd : decode cc pc = .ok (.invokestatic idx, 3)) {host : String} (hG : GoodIn lw_all (ws_ y cc2 nL2 ret2)) (hl : Cond.methodLinkNest own idx y host ∈ lw_tbl) (hini : Cond.initialized y.cls ∈ lw_all) (hsta : Cond.static y ∈ lw_all) (hy : y.cls ≠ "java/lang/invoke/MethodHandle" ∧ y.cls ≠ "java/lang/invoke/VarHandle" ∧ (parseMethodDescriptor y.desc).map (fun d => d.parameters.length) = some n) (hn : As.length = n) (hR : fr2 + 1 ≤ fr ∧ 8 + (nL2 + 11) + lo2 ≤ lo) (hst : st = (As.map (pv_ G)).reverse ++ rest) (hrest : (rest.map fun v => v.category).sum ≤ 8) (M : ∀ (r : Int64 × ph_t), f = some r → Mt G y cc2 nL2 ret2 fr2 lo2 As h r.2 (.returned (ov_J r.1)))
    (k : ∀ r : Int64 × ph_t, Tr G Z Gd pc' L (.long r.1 :: rest) r.2 (o r)) : Tr G Z Gd pc L st h (f.bind o) := by
  subst hp
  intro r hr hg
  obtain ⟨q, h3, h4⟩ := bind_some_of hr
  have K := k q r h4 hg
  obtain ⟨m1, m2⟩ := M q h3
  refine tr_go (ov := ov_J) (r := q) (rest := rest) C m1 (fun X kx H locs ls h32 P hsz hcs => ?_) K
  have C := C X kx
  rw [← cx_l C] at m2
  exact va_runSN ⟨C.1, C.2.1, C.2.2.1, C.2.2.2.1, C.2.2.2.2.1⟩ m2 ⟨va_cnB n (cx_hts C) hG rfl rfl rfl (cx_nm C hl) (cx_w C hini) hy (by rw [(Rm X kx).1, (Rm X kx).2]; exact hR), cx_w C hsta, trivial⟩ ⟨pc_blind, pc_at C h32 P⟩ rfl (by rw [List.length_map]; exact hn) hsz hst (F0_room hrest) hd hcs
theorem tr_callVA {T : Type} {G : gv_t} {Z : zx_t} {Gd : T → Prop} {cc : ByteArray} {own : String} {nL : Nat} {ret : Option FieldType} {pc : Nat} {L : lo_t} {h : ph_t} {fr lo : Nat} {y : MethodName} {cc2 : ByteArray} {nL2 : Nat} {ret2 : Option FieldType} {fr2 lo2 idx n : Nat} {c N : Nat} {Tb : u_T} {ty : Nat → FieldType} {As : List pa_t} {rest : List Value} {x : Option Nat} {st : List Value} {f : Nat → Option (Option Nat × ph_t)} {o : Option Nat × ph_t → Option T} (C : Cz G Z cc own nL ret) (Rm : Rz Z fr lo) (pc' : Nat) (hp : pc + 3 = pc') (hd : decode cc pc = .ok (.invokevirtual idx, 3)) {Cn : String} (hG : GoodIn lw_all (wsV own idx Cn y (ws_ y cc2 nL2 ret2))) (kc : kc_ G c Cn Tb N ty) (hy : y.cls = Cn ∧ y.cls ≠ "java/lang/invoke/MethodHandle" ∧ y.cls ≠ "java/lang/invoke/VarHandle" ∧ (parseMethodDescriptor y.desc).map (fun d => d.parameters.length) = some n) (hn : As.length = n) (hR : fr2 + 1 ≤ fr ∧ 8 + (nL2 + 11) + lo2 ≤ lo) (hst : st = (As.map (pv_ G)).reverse ++ rf_ G x :: rest) (hrest : (rest.map fun v => v.category).sum ≤ 8) (M : ∀ a (r : Option Nat × ph_t), f a = some r → Mt G y cc2 nL2 ret2 fr2 lo2 ((.inr <| .inr (some a)) :: As) h r.2 (.returned ((ov_A G) r.1)))
    (k : ∀ r : Option Nat × ph_t, Tr G Z Gd pc' L (rf_ G r.1 :: rest) r.2 (o r)) : Tr G Z Gd pc L st h ((dv_ h x c).bind fun a => (f a).bind o) := by
  subst hp
  intro r hr hg
  obtain ⟨a, h1, h2⟩ := bind_some_of hr
  obtain ⟨q, h3, h4⟩ := bind_some_of h2
  obtain ⟨rfl, h5⟩ := dv_some h1
  have K := k q r h4 hg
  obtain ⟨m1, m2⟩ := M a q h3
  refine tr_go (ov := (ov_A G)) (r := q) (rest := rest) C m1 (fun X kx H locs ls h32 P hsz hcs => ?_) K
  have C := C X kx
  rw [← cx_l C] at m2
  obtain ⟨h9, hcell⟩ := cx_recv C kc h5 P
  rw [rf_some h9] at hst
  exact va_runV ⟨C.1, C.2.1, C.2.2.1, C.2.2.2.1, C.2.2.2.2.1⟩ m2 (cwV n (cx_hts C) hG rfl rfl rfl hy (by rw [(Rm X kx).1, (Rm X kx).2]; exact hR)) ⟨pc_blind, hcell, pc_av C h32 P h9⟩ rfl (by rw [List.length_map]; exact hn) hsz hst (F0_room hrest) hd hcs
theorem tr_callVNA {T : Type} {G : gv_t} {Z : zx_t} {Gd : T → Prop} {cc : ByteArray} {own : String} {nL : Nat} {ret : Option FieldType} {pc : Nat} {L : lo_t} {h : ph_t} {fr lo : Nat} {y : MethodName} {cc2 : ByteArray} {nL2 : Nat} {ret2 : Option FieldType} {fr2 lo2 idx n : Nat} {c N : Nat} {Tb : u_T} {ty : Nat → FieldType} {As : List pa_t} {rest : List Value} {x : Option Nat} {st : List Value} {f : Nat → Option (Option Nat × ph_t)} {o : Option Nat × ph_t → Option T} (C : Cz G Z cc own nL ret) (Rm : Rz Z fr lo) (pc' : Nat) (hp : pc + 3 = pc') (hd : decode cc pc = .ok (.invokevirtual idx, 3)) {Cn host : String} (hG : GoodIn lw_all (ws_ y cc2 nL2 ret2)) (hl : Cond.methodLinkNest own idx y host ∈ lw_tbl) (hini : Cond.initialized y.cls ∈ lw_all) (hin : Cond.instanceMethod y ∈ lw_all) (hse : Cond.selects Cn y y ∈ lw_all) (kc : kc_ G c Cn Tb N ty) (hy : y.cls ≠ "java/lang/invoke/MethodHandle" ∧ y.cls ≠ "java/lang/invoke/VarHandle" ∧ (parseMethodDescriptor y.desc).map (fun d => d.parameters.length) = some n) (hn : As.length = n) (hR : fr2 + 1 ≤ fr ∧ 8 + (nL2 + 11) + lo2 ≤ lo) (hst : st = (As.map (pv_ G)).reverse ++ rf_ G x :: rest) (hrest : (rest.map fun v => v.category).sum ≤ 8) (M : ∀ a (r : Option Nat × ph_t), f a = some r → Mt G y cc2 nL2 ret2 fr2 lo2 ((.inr <| .inr (some a)) :: As) h r.2 (.returned ((ov_A G) r.1)))
    (k : ∀ r : Option Nat × ph_t, Tr G Z Gd pc' L (rf_ G r.1 :: rest) r.2 (o r)) : Tr G Z Gd pc L st h ((dv_ h x c).bind fun a => (f a).bind o) := by
  subst hp
  intro r hr hg
  obtain ⟨a, h1, h2⟩ := bind_some_of hr
  obtain ⟨q, h3, h4⟩ := bind_some_of h2
  obtain ⟨rfl, h5⟩ := dv_some h1
  have K := k q r h4 hg
  obtain ⟨m1, m2⟩ := M a q h3
  refine tr_go (ov := (ov_A G)) (r := q) (rest := rest) C m1 (fun X kx H locs ls h32 P hsz hcs => ?_) K
  have C := C X kx
  rw [← cx_l C] at m2
  obtain ⟨h9, hcell⟩ := cx_recv C kc h5 P
  rw [rf_some h9] at hst
  exact va_runVN ⟨C.1, C.2.1, C.2.2.1, C.2.2.2.1, C.2.2.2.2.1⟩ m2 ⟨va_cnB n (cx_hts C) hG rfl rfl rfl (cx_nm C hl) (cx_w C hini) hy (by rw [(Rm X kx).1, (Rm X kx).2]; exact hR), cx_w C hin, cx_w C hse⟩ ⟨pc_blind, hcell, pc_av C h32 P h9⟩ rfl (by rw [List.length_map]; exact hn) hsz hst (F0_room hrest) hd hcs
theorem tr_callUA {T : Type} {G : gv_t} {Z : zx_t} {Gd : T → Prop} {cc : ByteArray} {own : String} {nL : Nat} {ret : Option FieldType} {pc : Nat} {L : lo_t} {h : ph_t} {fr lo : Nat} {y : MethodName} {cc2 : ByteArray} {nL2 : Nat} {ret2 : Option FieldType} {fr2 lo2 idx n : Nat} {c N : Nat} {Tb : u_T} {ty : Nat → FieldType} {As : List pa_t} {rest : List Value} {x : Option Nat} {st : List Value} {f : Nat → Option (Option Nat × ph_t)} {o : Option Nat × ph_t → Option T} (C : Cz G Z cc own nL ret) (Rm : Rz Z fr lo) (pc' : Nat) (hp : pc + 3 = pc') (hd : decode cc pc = .ok (.invokevirtual idx, 3)) {Cn owner : String} {xm : MethodName} (hG : GoodIn lw_all (va_wsU own idx Cn owner xm y (ws_ y cc2 nL2 ret2))) (hz : Cond.declares ⟨owner, xm.name, xm.desc⟩ ∈ lw_tbl) (kc : kc_ G c Cn Tb N ty) (hy : owner ≠ "java/lang/invoke/MethodHandle" ∧ owner ≠ "java/lang/invoke/VarHandle" ∧ (parseMethodDescriptor xm.desc).map (fun d => d.parameters.length) = some n) (hn : As.length = n) (hR : fr2 + 1 ≤ fr ∧ 8 + (nL2 + 11) + lo2 ≤ lo) (hst : st = (As.map (pv_ G)).reverse ++ rf_ G x :: rest) (hrest : (rest.map fun v => v.category).sum ≤ 8) (M : ∀ a (r : Option Nat × ph_t), f a = some r → Mt G y cc2 nL2 ret2 fr2 lo2 ((.inr <| .inr (some a)) :: As) h r.2 (.returned ((ov_A G) r.1)))
    (k : ∀ r : Option Nat × ph_t, Tr G Z Gd pc' L (rf_ G r.1 :: rest) r.2 (o r)) : Tr G Z Gd pc L st h ((dv_ h x c).bind fun a => (f a).bind o) := by
  subst hp
  intro r hr hg
  obtain ⟨a, h1, h2⟩ := bind_some_of hr
  obtain ⟨q, h3, h4⟩ := bind_some_of h2
  obtain ⟨rfl, h5⟩ := dv_some h1
  have K := k q r h4 hg
  obtain ⟨m1, m2⟩ := M a q h3
  refine tr_go (ov := (ov_A G)) (r := q) (rest := rest) C m1 (fun X kx H locs ls h32 P hsz hcs => ?_) K
  have C := C X kx
  rw [← cx_l C] at m2
  obtain ⟨h9, hcell⟩ := cx_recv C kc h5 P
  rw [rf_some h9] at hst
  exact va_runU ⟨C.1, C.2.1, C.2.2.1, C.2.2.2.1, C.2.2.2.2.1⟩ m2 (va_cwA n (cx_hts C) hG rfl rfl rfl (cx_nd C hz) hy (by rw [(Rm X kx).1, (Rm X kx).2]; exact hR)) ⟨pc_blind, hcell, pc_av C h32 P h9⟩ rfl (by rw [List.length_map]; exact hn) hsz hst (F0_room hrest) hd hcs
theorem tr_callSA {T : Type} {G : gv_t} {Z : zx_t} {Gd : T → Prop} {cc : ByteArray} {own : String} {nL : Nat} {ret : Option FieldType} {pc : Nat} {L : lo_t} {h : ph_t} {fr lo : Nat} {y : MethodName} {cc2 : ByteArray} {nL2 : Nat} {ret2 : Option FieldType} {fr2 lo2 idx n : Nat} {As : List pa_t} {rest : List Value} {st : List Value} {f : Option (Option Nat × ph_t)} {o : Option Nat × ph_t → Option T} (C : Cz G Z cc own nL ret) (Rm : Rz Z fr lo) (pc' : Nat) (hp : pc + 3 = pc') (hd : decode cc pc = .ok (.invokestatic idx, 3)) (hG : GoodIn lw_all (va_wsS own idx y (ws_ y cc2 nL2 ret2))) (hy : y.cls ≠ "java/lang/invoke/MethodHandle" ∧ y.cls ≠ "java/lang/invoke/VarHandle" ∧ (parseMethodDescriptor y.desc).map (fun d => d.parameters.length) = some n) (hn : As.length = n) (hR : fr2 + 1 ≤ fr ∧ 8 + (nL2 + 11) + lo2 ≤ lo) (hst : st = (As.map (pv_ G)).reverse ++ rest) (hrest : (rest.map fun v => v.category).sum ≤ 8) (M : ∀ (r : Option Nat × ph_t), f = some r → Mt G y cc2 nL2 ret2 fr2 lo2 As h r.2 (.returned ((ov_A G) r.1)))
    (k : ∀ r : Option Nat × ph_t, Tr G Z Gd pc' L (rf_ G r.1 :: rest) r.2 (o r)) : Tr G Z Gd pc L st h (f.bind o) := by
  subst hp
  intro r hr hg
  obtain ⟨q, h3, h4⟩ := bind_some_of hr
  have K := k q r h4 hg
  obtain ⟨m1, m2⟩ := M q h3
  refine tr_go (ov := (ov_A G)) (r := q) (rest := rest) C m1 (fun X kx H locs ls h32 P hsz hcs => ?_) K
  have C := C X kx
  rw [← cx_l C] at m2
  exact va_runS ⟨C.1, C.2.1, C.2.2.1, C.2.2.2.1, C.2.2.2.2.1⟩ m2 (va_cwS n (cx_hts C) hG rfl rfl rfl hy (by rw [(Rm X kx).1, (Rm X kx).2]; exact hR)) ⟨pc_blind, pc_at C h32 P⟩ rfl (by rw [List.length_map]; exact hn) hsz hst (F0_room hrest) hd hcs
theorem tr_callSNA {T : Type} {G : gv_t} {Z : zx_t} {Gd : T → Prop} {cc : ByteArray} {own : String} {nL : Nat} {ret : Option FieldType} {pc : Nat} {L : lo_t} {h : ph_t} {fr lo : Nat} {y : MethodName} {cc2 : ByteArray} {nL2 : Nat} {ret2 : Option FieldType} {fr2 lo2 idx n : Nat} {As : List pa_t} {rest : List Value} {st : List Value} {f : Option (Option Nat × ph_t)} {o : Option Nat × ph_t → Option T} (C : Cz G Z cc own nL ret) (Rm : Rz Z fr lo) (pc' : Nat) (hp : pc + 3 = pc') (hd : decode cc pc = .ok (.invokestatic idx, 3)) {host : String} (hG : GoodIn lw_all (ws_ y cc2 nL2 ret2)) (hl : Cond.methodLinkNest own idx y host ∈ lw_tbl) (hini : Cond.initialized y.cls ∈ lw_all) (hsta : Cond.static y ∈ lw_all) (hy : y.cls ≠ "java/lang/invoke/MethodHandle" ∧ y.cls ≠ "java/lang/invoke/VarHandle" ∧ (parseMethodDescriptor y.desc).map (fun d => d.parameters.length) = some n) (hn : As.length = n) (hR : fr2 + 1 ≤ fr ∧ 8 + (nL2 + 11) + lo2 ≤ lo) (hst : st = (As.map (pv_ G)).reverse ++ rest) (hrest : (rest.map fun v => v.category).sum ≤ 8) (M : ∀ (r : Option Nat × ph_t), f = some r → Mt G y cc2 nL2 ret2 fr2 lo2 As h r.2 (.returned ((ov_A G) r.1)))
    (k : ∀ r : Option Nat × ph_t, Tr G Z Gd pc' L (rf_ G r.1 :: rest) r.2 (o r)) : Tr G Z Gd pc L st h (f.bind o) := by
  subst hp
  intro r hr hg
  obtain ⟨q, h3, h4⟩ := bind_some_of hr
  have K := k q r h4 hg
  obtain ⟨m1, m2⟩ := M q h3
  refine tr_go (ov := (ov_A G)) (r := q) (rest := rest) C m1 (fun X kx H locs ls h32 P hsz hcs => ?_) K
  have C := C X kx
  rw [← cx_l C] at m2
  exact va_runSN ⟨C.1, C.2.1, C.2.2.1, C.2.2.2.1, C.2.2.2.2.1⟩ m2 ⟨va_cnB n (cx_hts C) hG rfl rfl rfl (cx_nm C hl) (cx_w C hini) hy (by rw [(Rm X kx).1, (Rm X kx).2]; exact hR), cx_w C hsta, trivial⟩ ⟨pc_blind, pc_at C h32 P⟩ rfl (by rw [List.length_map]; exact hn) hsz hst (F0_room hrest) hd hcs
theorem tr_callVV {T : Type} {G : gv_t} {Z : zx_t} {Gd : T → Prop} {cc : ByteArray} {own : String} {nL : Nat} {ret : Option FieldType} {pc : Nat} {L : lo_t} {h : ph_t} {fr lo : Nat} {y : MethodName} {cc2 : ByteArray} {nL2 : Nat} {ret2 : Option FieldType} {fr2 lo2 idx n : Nat} {c N : Nat} {Tb : u_T} {ty : Nat → FieldType} {As : List pa_t} {rest : List Value} {x : Option Nat} {st : List Value} {f : Nat → Option (Unit × ph_t)} {o : Unit × ph_t → Option T} (C : Cz G Z cc own nL ret) (Rm : Rz Z fr lo) (pc' : Nat) (hp : pc + 3 = pc') (hd : decode cc pc = .ok (.invokevirtual idx, 3)) {Cn : String} (hG : GoodIn lw_all (wsV own idx Cn y (ws_ y cc2 nL2 ret2))) (kc : kc_ G c Cn Tb N ty) (hy : y.cls = Cn ∧ y.cls ≠ "java/lang/invoke/MethodHandle" ∧ y.cls ≠ "java/lang/invoke/VarHandle" ∧ (parseMethodDescriptor y.desc).map (fun d => d.parameters.length) = some n) (hn : As.length = n) (hR : fr2 + 1 ≤ fr ∧ 8 + (nL2 + 11) + lo2 ≤ lo) (hst : st = (As.map (pv_ G)).reverse ++ rf_ G x :: rest) (hrest : (rest.map fun v => v.category).sum ≤ 8) (M : ∀ a (r : Unit × ph_t), f a = some r → Mt G y cc2 nL2 ret2 fr2 lo2 ((.inr <| .inr (some a)) :: As) h r.2 (.returned (ov_V r.1)))
    (k : ∀ r : Unit × ph_t, Tr G Z Gd pc' L (rest) r.2 (o r)) : Tr G Z Gd pc L st h ((dv_ h x c).bind fun a => (f a).bind o) := by
  subst hp
  intro r hr hg
  obtain ⟨a, h1, h2⟩ := bind_some_of hr
  obtain ⟨q, h3, h4⟩ := bind_some_of h2
  obtain ⟨rfl, h5⟩ := dv_some h1
  have K := k q r h4 hg
  obtain ⟨m1, m2⟩ := M a q h3
  refine tr_go (ov := ov_V) (r := q) (rest := rest) C m1 (fun X kx H locs ls h32 P hsz hcs => ?_) K
  have C := C X kx
  rw [← cx_l C] at m2
  obtain ⟨h9, hcell⟩ := cx_recv C kc h5 P
  rw [rf_some h9] at hst
  exact va_runV ⟨C.1, C.2.1, C.2.2.1, C.2.2.2.1, C.2.2.2.2.1⟩ m2 (cwV n (cx_hts C) hG rfl rfl rfl hy (by rw [(Rm X kx).1, (Rm X kx).2]; exact hR)) ⟨pc_blind, hcell, pc_av C h32 P h9⟩ rfl (by rw [List.length_map]; exact hn) hsz hst (F0_room hrest) hd hcs
theorem tr_callVNV {T : Type} {G : gv_t} {Z : zx_t} {Gd : T → Prop} {cc : ByteArray} {own : String} {nL : Nat} {ret : Option FieldType} {pc : Nat} {L : lo_t} {h : ph_t} {fr lo : Nat} {y : MethodName} {cc2 : ByteArray} {nL2 : Nat} {ret2 : Option FieldType} {fr2 lo2 idx n : Nat} {c N : Nat} {Tb : u_T} {ty : Nat → FieldType} {As : List pa_t} {rest : List Value} {x : Option Nat} {st : List Value} {f : Nat → Option (Unit × ph_t)} {o : Unit × ph_t → Option T} (C : Cz G Z cc own nL ret) (Rm : Rz Z fr lo) (pc' : Nat) (hp : pc + 3 = pc') (hd : decode cc pc = .ok (.invokevirtual idx, 3)) {Cn host : String} (hG : GoodIn lw_all (ws_ y cc2 nL2 ret2)) (hl : Cond.methodLinkNest own idx y host ∈ lw_tbl) (hini : Cond.initialized y.cls ∈ lw_all) (hin : Cond.instanceMethod y ∈ lw_all) (hse : Cond.selects Cn y y ∈ lw_all) (kc : kc_ G c Cn Tb N ty) (hy : y.cls ≠ "java/lang/invoke/MethodHandle" ∧ y.cls ≠ "java/lang/invoke/VarHandle" ∧ (parseMethodDescriptor y.desc).map (fun d => d.parameters.length) = some n) (hn : As.length = n) (hR : fr2 + 1 ≤ fr ∧ 8 + (nL2 + 11) + lo2 ≤ lo) (hst : st = (As.map (pv_ G)).reverse ++ rf_ G x :: rest) (hrest : (rest.map fun v => v.category).sum ≤ 8) (M : ∀ a (r : Unit × ph_t), f a = some r → Mt G y cc2 nL2 ret2 fr2 lo2 ((.inr <| .inr (some a)) :: As) h r.2 (.returned (ov_V r.1)))
    (k : ∀ r : Unit × ph_t, Tr G Z Gd pc' L (rest) r.2 (o r)) : Tr G Z Gd pc L st h ((dv_ h x c).bind fun a => (f a).bind o) := by
  subst hp
  intro r hr hg
  obtain ⟨a, h1, h2⟩ := bind_some_of hr
  obtain ⟨q, h3, h4⟩ := bind_some_of h2
  obtain ⟨rfl, h5⟩ := dv_some h1
  have K := k q r h4 hg
  obtain ⟨m1, m2⟩ := M a q h3
  refine tr_go (ov := ov_V) (r := q) (rest := rest) C m1 (fun X kx H locs ls h32 P hsz hcs => ?_) K
  have C := C X kx
  rw [← cx_l C] at m2
  obtain ⟨h9, hcell⟩ := cx_recv C kc h5 P
  rw [rf_some h9] at hst
  exact va_runVN ⟨C.1, C.2.1, C.2.2.1, C.2.2.2.1, C.2.2.2.2.1⟩ m2 ⟨va_cnB n (cx_hts C) hG rfl rfl rfl (cx_nm C hl) (cx_w C hini) hy (by rw [(Rm X kx).1, (Rm X kx).2]; exact hR), cx_w C hin, cx_w C hse⟩ ⟨pc_blind, hcell, pc_av C h32 P h9⟩ rfl (by rw [List.length_map]; exact hn) hsz hst (F0_room hrest) hd hcs
theorem tr_callUV {T : Type} {G : gv_t} {Z : zx_t} {Gd : T → Prop} {cc : ByteArray} {own : String} {nL : Nat} {ret : Option FieldType} {pc : Nat} {L : lo_t} {h : ph_t} {fr lo : Nat} {y : MethodName} {cc2 : ByteArray} {nL2 : Nat} {ret2 : Option FieldType} {fr2 lo2 idx n : Nat} {c N : Nat} {Tb : u_T} {ty : Nat → FieldType} {As : List pa_t} {rest : List Value} {x : Option Nat} {st : List Value} {f : Nat → Option (Unit × ph_t)} {o : Unit × ph_t → Option T} (C : Cz G Z cc own nL ret) (Rm : Rz Z fr lo) (pc' : Nat) (hp : pc + 3 = pc') (hd : decode cc pc = .ok (.invokevirtual idx, 3)) {Cn owner : String} {xm : MethodName} (hG : GoodIn lw_all (va_wsU own idx Cn owner xm y (ws_ y cc2 nL2 ret2))) (hz : Cond.declares ⟨owner, xm.name, xm.desc⟩ ∈ lw_tbl) (kc : kc_ G c Cn Tb N ty) (hy : owner ≠ "java/lang/invoke/MethodHandle" ∧ owner ≠ "java/lang/invoke/VarHandle" ∧ (parseMethodDescriptor xm.desc).map (fun d => d.parameters.length) = some n) (hn : As.length = n) (hR : fr2 + 1 ≤ fr ∧ 8 + (nL2 + 11) + lo2 ≤ lo) (hst : st = (As.map (pv_ G)).reverse ++ rf_ G x :: rest) (hrest : (rest.map fun v => v.category).sum ≤ 8) (M : ∀ a (r : Unit × ph_t), f a = some r → Mt G y cc2 nL2 ret2 fr2 lo2 ((.inr <| .inr (some a)) :: As) h r.2 (.returned (ov_V r.1)))
    (k : ∀ r : Unit × ph_t, Tr G Z Gd pc' L (rest) r.2 (o r)) : Tr G Z Gd pc L st h ((dv_ h x c).bind fun a => (f a).bind o) := by
  subst hp
  intro r hr hg
  obtain ⟨a, h1, h2⟩ := bind_some_of hr
  obtain ⟨q, h3, h4⟩ := bind_some_of h2
  obtain ⟨rfl, h5⟩ := dv_some h1
  have K := k q r h4 hg
  obtain ⟨m1, m2⟩ := M a q h3
  refine tr_go (ov := ov_V) (r := q) (rest := rest) C m1 (fun X kx H locs ls h32 P hsz hcs => ?_) K
  have C := C X kx
  rw [← cx_l C] at m2
  obtain ⟨h9, hcell⟩ := cx_recv C kc h5 P
  rw [rf_some h9] at hst
  exact va_runU ⟨C.1, C.2.1, C.2.2.1, C.2.2.2.1, C.2.2.2.2.1⟩ m2 (va_cwA n (cx_hts C) hG rfl rfl rfl (cx_nd C hz) hy (by rw [(Rm X kx).1, (Rm X kx).2]; exact hR)) ⟨pc_blind, hcell, pc_av C h32 P h9⟩ rfl (by rw [List.length_map]; exact hn) hsz hst (F0_room hrest) hd hcs
theorem tr_callSV {T : Type} {G : gv_t} {Z : zx_t} {Gd : T → Prop} {cc : ByteArray} {own : String} {nL : Nat} {ret : Option FieldType} {pc : Nat} {L : lo_t} {h : ph_t} {fr lo : Nat} {y : MethodName} {cc2 : ByteArray} {nL2 : Nat} {ret2 : Option FieldType} {fr2 lo2 idx n : Nat} {As : List pa_t} {rest : List Value} {st : List Value} {f : Option (Unit × ph_t)} {o : Unit × ph_t → Option T} (C : Cz G Z cc own nL ret) (Rm : Rz Z fr lo) (pc' : Nat) (hp : pc + 3 = pc') (hd : decode cc pc = .ok (.invokestatic idx, 3)) (hG : GoodIn lw_all (va_wsS own idx y (ws_ y cc2 nL2 ret2))) (hy : y.cls ≠ "java/lang/invoke/MethodHandle" ∧ y.cls ≠ "java/lang/invoke/VarHandle" ∧ (parseMethodDescriptor y.desc).map (fun d => d.parameters.length) = some n) (hn : As.length = n) (hR : fr2 + 1 ≤ fr ∧ 8 + (nL2 + 11) + lo2 ≤ lo) (hst : st = (As.map (pv_ G)).reverse ++ rest) (hrest : (rest.map fun v => v.category).sum ≤ 8) (M : ∀ (r : Unit × ph_t), f = some r → Mt G y cc2 nL2 ret2 fr2 lo2 As h r.2 (.returned (ov_V r.1)))
    (k : ∀ r : Unit × ph_t, Tr G Z Gd pc' L (rest) r.2 (o r)) : Tr G Z Gd pc L st h (f.bind o) := by
  subst hp
  intro r hr hg
  obtain ⟨q, h3, h4⟩ := bind_some_of hr
  have K := k q r h4 hg
  obtain ⟨m1, m2⟩ := M q h3
  refine tr_go (ov := ov_V) (r := q) (rest := rest) C m1 (fun X kx H locs ls h32 P hsz hcs => ?_) K
  have C := C X kx
  rw [← cx_l C] at m2
  exact va_runS ⟨C.1, C.2.1, C.2.2.1, C.2.2.2.1, C.2.2.2.2.1⟩ m2 (va_cwS n (cx_hts C) hG rfl rfl rfl hy (by rw [(Rm X kx).1, (Rm X kx).2]; exact hR)) ⟨pc_blind, pc_at C h32 P⟩ rfl (by rw [List.length_map]; exact hn) hsz hst (F0_room hrest) hd hcs
theorem tr_callSNV {T : Type} {G : gv_t} {Z : zx_t} {Gd : T → Prop} {cc : ByteArray} {own : String} {nL : Nat} {ret : Option FieldType} {pc : Nat} {L : lo_t} {h : ph_t} {fr lo : Nat} {y : MethodName} {cc2 : ByteArray} {nL2 : Nat} {ret2 : Option FieldType} {fr2 lo2 idx n : Nat} {As : List pa_t} {rest : List Value} {st : List Value} {f : Option (Unit × ph_t)} {o : Unit × ph_t → Option T} (C : Cz G Z cc own nL ret) (Rm : Rz Z fr lo) (pc' : Nat) (hp : pc + 3 = pc') (hd : decode cc pc = .ok (.invokestatic idx, 3)) {host : String} (hG : GoodIn lw_all (ws_ y cc2 nL2 ret2)) (hl : Cond.methodLinkNest own idx y host ∈ lw_tbl) (hini : Cond.initialized y.cls ∈ lw_all) (hsta : Cond.static y ∈ lw_all) (hy : y.cls ≠ "java/lang/invoke/MethodHandle" ∧ y.cls ≠ "java/lang/invoke/VarHandle" ∧ (parseMethodDescriptor y.desc).map (fun d => d.parameters.length) = some n) (hn : As.length = n) (hR : fr2 + 1 ≤ fr ∧ 8 + (nL2 + 11) + lo2 ≤ lo) (hst : st = (As.map (pv_ G)).reverse ++ rest) (hrest : (rest.map fun v => v.category).sum ≤ 8) (M : ∀ (r : Unit × ph_t), f = some r → Mt G y cc2 nL2 ret2 fr2 lo2 As h r.2 (.returned (ov_V r.1)))
    (k : ∀ r : Unit × ph_t, Tr G Z Gd pc' L (rest) r.2 (o r)) : Tr G Z Gd pc L st h (f.bind o) := by
  subst hp
  intro r hr hg
  obtain ⟨q, h3, h4⟩ := bind_some_of hr
  have K := k q r h4 hg
  obtain ⟨m1, m2⟩ := M q h3
  refine tr_go (ov := ov_V) (r := q) (rest := rest) C m1 (fun X kx H locs ls h32 P hsz hcs => ?_) K
  have C := C X kx
  rw [← cx_l C] at m2
  exact va_runSN ⟨C.1, C.2.1, C.2.2.1, C.2.2.2.1, C.2.2.2.2.1⟩ m2 ⟨va_cnB n (cx_hts C) hG rfl rfl rfl (cx_nm C hl) (cx_w C hini) hy (by rw [(Rm X kx).1, (Rm X kx).2]; exact hR), cx_w C hsta, trivial⟩ ⟨pc_blind, pc_at C h32 P⟩ rfl (by rw [List.length_map]; exact hn) hsz hst (F0_room hrest) hd hcs
theorem tr_callI {T : Type} {G : gv_t} {Z : zx_t} {Gd : T → Prop} {cc : ByteArray} {own : String} {nL : Nat} {ret : Option FieldType} {pc : Nat} {L : lo_t} {h : ph_t} {fr lo : Nat} {y : MethodName} {cc2 : ByteArray} {nL2 : Nat} {fr2 lo2 idx n : Nat} {As : List pa_t} {rest : List Value} {a : Nat} {st : List Value} {f : Nat → Option (Unit × ph_t)} {o : Unit × ph_t → Option T} (C : Cz G Z cc own nL ret) (Rm : Rz Z fr lo) (pc' : Nat) (hp : pc + 3 = pc') (hd : decode cc pc = .ok (.invokespecial idx, 3)) (hG : GoodIn lw_all (ws_ y cc2 nL2 none)) (hini : Cond.initialized y.cls ∈ lw_all) (hl : Cond.methodLink own idx y ∈ lw_all) (hin : Cond.instanceMethod y ∈ lw_all) (hy1 : y.name = "<init>") (hy : y.cls ≠ "java/lang/invoke/MethodHandle" ∧ y.cls ≠ "java/lang/invoke/VarHandle" ∧ (parseMethodDescriptor y.desc).map (fun d => d.parameters.length) = some n) (hn : As.length = n) (hR : fr2 + 1 ≤ fr ∧ 8 + (nL2 + 11) + lo2 ≤ lo) (hst : st = (As.map (pv_ G)).reverse ++ rf_ G (some a) :: rest) (hrest : (rest.map fun v => v.category).sum ≤ 8) (M : ∀ (r : Unit × ph_t), f a = some r → Mt G y cc2 nL2 none fr2 lo2 ((.inr <| .inr (some a)) :: As) h r.2 (.returned (ov_V r.1)))
    (k : ∀ r : Unit × ph_t, Tr G Z Gd pc' L rest r.2 (o r)) : Tr G Z Gd pc L st h (if 64 ≤ a then (f a).bind o else none) := by
  subst hp
  intro r hr hg
  split at hr
  · rename_i h9
    obtain ⟨q, h3, h4⟩ := bind_some_of hr
    have K := k q r h4 hg
    obtain ⟨m1, m2⟩ := M q h3
    refine tr_go (ov := ov_V) (r := q) (rest := rest) C m1 (fun X kx H locs ls h32 P hsz hcs => ?_) K
    have C := C X kx
    rw [← cx_l C] at m2
    rw [rf_some h9] at hst
    exact va_runI ⟨C.1, C.2.1, C.2.2.1, C.2.2.2.1, C.2.2.2.2.1⟩ m2 (cwI n (cx_hts C) hG rfl rfl rfl (cx_w C hini) (cx_w C hl) (cx_w C hin) hy1 hy (by rw [(Rm X kx).1, (Rm X kx).2]; exact hR)) ⟨pc_blind, pc_av C h32 P h9⟩ rfl (by rw [List.length_map]; exact hn) hsz hst (F0_room hrest) hd hcs
  · cases hr
theorem tr_callIN {T : Type} {G : gv_t} {Z : zx_t} {Gd : T → Prop} {cc : ByteArray} {own : String} {nL : Nat} {ret : Option FieldType} {pc : Nat} {L : lo_t} {h : ph_t} {fr lo : Nat} {y : MethodName} {cc2 : ByteArray} {nL2 : Nat} {fr2 lo2 idx n : Nat} {As : List pa_t} {rest : List Value} {a : Nat} {st : List Value} {f : Nat → Option (Unit × ph_t)} {o : Unit × ph_t → Option T} (C : Cz G Z cc own nL ret) (Rm : Rz Z fr lo) (pc' : Nat) (hp : pc + 3 = pc') (hd : decode cc pc = .ok (.invokespecial idx, 3)) {host : String} (hG : GoodIn lw_all (ws_ y cc2 nL2 none)) (hini : Cond.initialized y.cls ∈ lw_all) (hl : Cond.methodLinkNest own idx y host ∈ lw_tbl) (hin : Cond.instanceMethod y ∈ lw_all) (hy1 : y.name = "<init>") (hy : y.cls ≠ "java/lang/invoke/MethodHandle" ∧ y.cls ≠ "java/lang/invoke/VarHandle" ∧ (parseMethodDescriptor y.desc).map (fun d => d.parameters.length) = some n) (hn : As.length = n) (hR : fr2 + 1 ≤ fr ∧ 8 + (nL2 + 11) + lo2 ≤ lo) (hst : st = (As.map (pv_ G)).reverse ++ rf_ G (some a) :: rest) (hrest : (rest.map fun v => v.category).sum ≤ 8) (M : ∀ (r : Unit × ph_t), f a = some r → Mt G y cc2 nL2 none fr2 lo2 ((.inr <| .inr (some a)) :: As) h r.2 (.returned (ov_V r.1)))
    (k : ∀ r : Unit × ph_t, Tr G Z Gd pc' L rest r.2 (o r)) : Tr G Z Gd pc L st h (if 64 ≤ a then (f a).bind o else none) := by
  subst hp
  intro r hr hg
  split at hr
  · rename_i h9
    obtain ⟨q, h3, h4⟩ := bind_some_of hr
    have K := k q r h4 hg
    obtain ⟨m1, m2⟩ := M q h3
    refine tr_go (ov := ov_V) (r := q) (rest := rest) C m1 (fun X kx H locs ls h32 P hsz hcs => ?_) K
    have C := C X kx
    rw [← cx_l C] at m2
    rw [rf_some h9] at hst
    exact va_runIN ⟨C.1, C.2.1, C.2.2.1, C.2.2.2.1, C.2.2.2.2.1⟩ m2 ⟨va_cnB n (cx_hts C) hG rfl rfl rfl (cx_nm C hl) (cx_w C hini) hy (by rw [(Rm X kx).1, (Rm X kx).2]; exact hR), hy1, cx_w C hin⟩ ⟨pc_blind, pc_av C h32 P h9⟩ rfl (by rw [List.length_map]; exact hn) hsz hst (F0_room hrest) hd hcs
  · cases hr
theorem tr_objInit {T : Type} {G : gv_t} {Z : zx_t} {Gd : T → Prop} {cc : ByteArray} {own : String} {nL : Nat} {ret : Option FieldType} {pc : Nat} {L : lo_t} {h : ph_t} {a idx : Nat} {rest : List Value} {fr lo : Nat} {o : Option T} (C : Cz G Z cc own nL ret) (Rm : Rz Z fr lo) (pc' : Nat) (hp : pc + 3 = pc') (hd : decode cc pc = .ok (.invokespecial idx, 3)) (h1 : Cond.methodLink own idx objectInit ∈ lw_all) (h2 : Cond.instanceMethod objectInit ∈ lw_all) (h3 : Cond.code objectInit ⟨#[0xb1]⟩ 1 none ∈ lw_all) (hf : 1 ≤ fr) (hl : (rest.map fun v => v.category).sum + 12 ≤ lo)
    (k : Tr G Z Gd pc' L rest h o) : Tr G Z Gd pc L (rf_ G (some a) :: rest) h (if 64 ≤ a then o else none) := by
  subst hp
  intro r hr hg
  split at hr
  · rename_i h9
    have K := k r hr hg
    refine ⟨K.1, fun X kx H locs ls a1 a2 a3 a4 a5 => ?_⟩
    have C := C X kx
    rw [rf_some h9]
    refine W.objInit C.1 C.2.1 C.2.2.2.1 (cx_w C h1) (cx_w C h2) (cx_w C h3) rfl a5.1 rfl hd (by rw [(Rm X kx).1]; exact hf) (by rw [(Rm X kx).2]; show 2 * 0 + _ + 12 ≤ lo; omega) ?_
    exact K.2 X kx H locs ls a1 a2 a3 a4 a5
  · cases hr
