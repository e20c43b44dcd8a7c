/-! CORE N: the law's own rows -/
theorem tr_callVWI {T : Type} {G : gv_t} {Z : zx_t} {Gd : T → Prop} {cc : ByteArray} {own : String} {nL : Nat} {ret : Option FieldType} {pc : Nat} {L : lo_t} {h : ph_t} {fr lo : Nat} {y : MethodName} {cc2 : ByteArray} {nL2 : Nat} {ret2 : Option FieldType} {fr2 lo2 idx n : Nat} {hh : List (Nat × Nat × Nat × Nat)} {c N : Nat} {Tb : u_T} {ty : Nat → FieldType} {As : List pa_t} {rest : List Value} {x : Option Nat} {st : List Value} {f : Nat → Option (Int32 × ph_t)} {o : Int32 × ph_t → Option T} (C : Cz G Z cc own nL ret) (Rm : Rz Z fr lo) (pc' : Nat) (hp : pc + 3 = pc') (hd : decode cc pc = .ok (.invokevirtual idx, 3)) {Cn : String} (hG : GoodIn lw_all (wsV own idx Cn y (wsW_ y cc2 nL2 ret2 hh))) (kc : kc_ G c Cn Tb N ty) (hy : y.cls = Cn ∧ y.cls ≠ "java/lang/invoke/MethodHandle" ∧ y.cls ≠ "java/lang/invoke/VarHandle" ∧ (parseMethodDescriptor y.desc).map (fun d => d.parameters.length) = some n) (hn : As.length = n) (hR : fr2 + 1 ≤ fr ∧ 8 + (nL2 + 11) + lo2 ≤ lo) (hst : st = (As.map (pv_ G)).reverse ++ rf_ G x :: rest) (hrest : (rest.map fun v => v.category).sum ≤ 8) (M : ∀ a (r : Int32 × ph_t), f a = some r → MtW G y cc2 nL2 ret2 hh fr2 lo2 ((.inr <| .inr (some a)) :: As) h r.2 (.returned (ov_I r.1)))
    (k : ∀ r : Int32 × ph_t, Tr G Z Gd pc' L (.int r.1 :: rest) r.2 (o r)) : Tr G Z Gd pc L st h ((dv_ h x c).bind fun a => (f a).bind o) := by
  subst hp
  intro r hr hg
  obtain ⟨a, h1, h2⟩ := bind_some_of hr
  obtain ⟨q, h3, h4⟩ := bind_some_of h2
  obtain ⟨rfl, h5⟩ := dv_some h1
  have K := k q r h4 hg
  obtain ⟨m1, m2⟩ := M a q h3
  refine tr_go (ov := ov_I) (r := q) (rest := rest) C m1 (fun X kx H locs ls h32 P hsz hcs => ?_) K
  have C := C X kx
  rw [← cx_l C] at m2
  obtain ⟨h9, hcell⟩ := cx_recv C kc h5 P
  rw [rf_some h9] at hst
  exact vx_runVW ⟨C.1, C.2.1, C.2.2.1, C.2.2.2.1, C.2.2.2.2.1⟩ m2 (vx_cwVW n (cx_hts C) hG rfl rfl rfl hy (by rw [(Rm X kx).1, (Rm X kx).2]; exact hR)) ⟨pc_blind, hcell, pc_av C h32 P h9⟩ rfl (by rw [List.length_map]; exact hn) hsz hst (F0_room hrest) hd hcs
def gs_ (G : gv_t) (n0 : Nat) (xs : Nat → Int32) : Prop := ∃ b : Nat, gv_x G 60 = some b ∧ b < gv_B G ∧ va_X b n0 xs (gv_s G) (gv_s G).heap
def xP_ (n0 : Nat) (xs : Nat → Int32) (i : Int32) : Option Int32 := if 0 ≤ i.toInt ∧ i.toInt < (n0 : Int) then some (xs i.toNatClampNeg) else none
theorem xP_some {n0 : Nat} {xs : Nat → Int32} {i v : Int32} (e : xP_ n0 xs i = some v) : 0 ≤ i.toInt ∧ i.toInt < (n0 : Int) ∧ v = xs i.toNatClampNeg := by
  unfold xP_ at e
  split at e
  · rename_i q
    exact ⟨q.1, q.2, (Option.some.inj e).symm⟩
  · cases e
theorem gs_at {G : gv_t} {Z : zx_t} {X : fx_t} {cc : ByteArray} {own : String} {nL : Nat} {ret : Option FieldType} {h : ph_t} {H : Heap} {n0 : Nat} {xs : Nat → Int32} (C : Cx G Z X cc own nL ret) (P : PR G h H) (S : gs_ G n0 xs) : ∃ b : Nat, rf_ G (some 60) = .ref b ∧ va_X b n0 xs (fx_s X) H := by
  obtain ⟨b, hb, hlt, hX⟩ := S
  exact ⟨b, by simp [rf_, rm_, hb, va_rf], (hX.kept (P.2.1 b hlt)).moved (cx_W C).alike⟩
theorem tr_spld {T : Type} {G : gv_t} {Z : zx_t} {Gd : T → Prop} {cc : ByteArray} {own : String} {nL : Nat} {ret : Option FieldType} {pc : Nat} {L : lo_t} {h : ph_t} {st : List Value} {n0 : Nat} {xs : Nat → Int32} {i : Int32} {o : Int32 → Option T} (C : Cz G Z cc own nL ret) (S : gs_ G n0 xs) (pc' : Nat) (hp : pc + 1 = pc') (hd : decode cc pc = .ok (.iaload, 1))
    (k : ∀ v, Tr G Z Gd pc' L (.int v :: st) h (o v)) : Tr G Z Gd pc L (.int i :: rf_ G (some 60) :: st) h ((xP_ n0 xs i).bind o) := by
  subst hp
  intro r hr hg
  obtain ⟨v, h1, h2⟩ := bind_some_of hr
  obtain ⟨i1, i2, rfl⟩ := xP_some h1
  have K := k _ r h2 hg
  refine ⟨K.1, fun X kx H locs ls a1 a2 a3 a4 a5 => ?_⟩
  have C := C X kx
  obtain ⟨b, e, scr, c1, c2, c3, c4, c5⟩ := gs_at C a3 S
  obtain ⟨j1, j2⟩ := ix_in i1 i2
  rw [e]
  exact W.iald C.1 C.2.1 c1 c2 c3 (by rw [c4]; exact j1) (c5 _ j2) rfl rfl hd (K.2 X kx H locs ls a1 a2 a3 a4 a5)
theorem tr_splen {T : Type} {G : gv_t} {Z : zx_t} {Gd : T → Prop} {cc : ByteArray} {own : String} {nL : Nat} {ret : Option FieldType} {pc : Nat} {L : lo_t} {h : ph_t} {st : List Value} {n0 : Nat} {xs : Nat → Int32} {o : Option T} (C : Cz G Z cc own nL ret) (S : gs_ G n0 xs) (pc' : Nat) (hp : pc + 1 = pc') (hd : decode cc pc = .ok (.arraylength, 1))
    (k : Tr G Z Gd pc' L (.int (Int32.ofNat n0) :: st) h o) : Tr G Z Gd pc L (rf_ G (some 60) :: st) h o := by
  subst hp
  intro r hr hg
  have K := k r hr hg
  refine ⟨K.1, fun X kx H locs ls a1 a2 a3 a4 a5 => ?_⟩
  have C := C X kx
  obtain ⟨b, e, scr, c1, c2, c3, c4, c5⟩ := gs_at C a3 S
  rw [e]
  exact W.alen C.1 C.2.1 c1 c2 (by rw [c4]) rfl rfl hd (K.2 X kx H locs ls a1 a2 a3 a4 a5)
def R_law : String := "TruthBridgeLaw"
def lw_P (b : Addr) (xs : List Int32) (args : Array Value) (s : State) : Prop := args = #[.ref b] ∧ s.IntsAt b xs ∧ xs.length ≤ 384 ∧ (Jvm.Cond.and given_1 narrow_1).before args s = true
def lw_Q (_ : Array Value) (s : State) (o : Outcome) (t : State) : Prop := o = .returned (some (.int 1)) ∧ Framed s o t [] 601024 7293034
def lw_Z (below : List Frame) (a : Array Value) (s : State) : State → Prop := fun t => ∃ o, t.status = .running ∧ Ended t below o ∧ lw_Q a s o t
/-- the law's own end, with 1 on the stack, nothing written that was there before, its room as the claim has it -/
theorem lw_ret {p : Program} {l : Launch} {e : Env} {s : State} {m : MethodId} {below : List Frame} {meth : Method} {c : Code} {b : Nat} (hx : p.tables.exec = Jvm.exec) (hb : c.code = code) (hr : meth.sig.returnType = ret) (hlocks : meth.locks = false) {pc : Nat} {H : Heap} {ls : Array Slot} (hdg : decode code pc = .ok (.ireturn, 1)) : W p l e room_1 s m #[Value.ref b] below meth c H [] 601024 7293034 (lw_Z below #[Value.ref b] s) (F0 m pc ls [.int 1]) := by
  intro T hT X
  obtain ⟨fs, hret, hrun, hended, hW, hframe⟩ := X.leave (v := some (.int 1)) (hlocks := hlocks) (fun h => by rw [hr] at h; cases h)
  have hmeth' : T.vm.method? m = some meth := X.method'
  refine ⟨T.setFrames fs, ?_, .returned (some (.int 1)), hrun, hended, rfl, ⟨_, rfl⟩, hW, hframe⟩
  jvm_step X.here [X.here.top, hx, hb, hdg, hmeth', hr, ret, narrow_b1]
  (try refine ⟨rfl, ?_⟩); (try refine ⟨rfl, ?_⟩)
  first | (intro acts; rw [hret _ acts rfl rfl rfl]) | rw [hret _ _ rfl rfl rfl]
  exact Steps.refl _
/-- what holds at the law's entry: the machine, the code, the tables' words (any of lw_tbl by 'hts w (by decide +kernel)'), the script of L ints xs at the cell b, what the Statement gives of the start (any of its parts by flat_of_before) -/
def lw_At (p : Program) (s : State) (m : MethodId) (meth : Method) (c : Code) (b L : Nat) (xs : Nat → Int32) : Prop :=
  p.tables.exec = Jvm.exec ∧ c.code = code ∧ meth.sig.returnType = ret ∧ c.maxLocals = 4 ∧ s.vm.findClass R_law = some m.cls ∧ (∀ w ∈ lw_tbl, w.before #[Value.ref b] s = true) ∧ va_X b L xs s s.heap ∧ b < s.heap.size ∧ meth.locks = false ∧ (Jvm.Cond.and given_1 narrow_1).before #[Value.ref b] s = true
/-- the law's end -/
def ql_ (Z : zx_t) : Prop := ∀ X, zx_k Z X → (∃ b : Nat, fx_r X = room_1 ∧ fx_a X = #[Value.ref b] ∧ fx_q X = lw_Z (fx_b X) #[Value.ref b] (fx_s X))
def le_ (G : gv_t) (Z : zx_t) : Prop := ql_ Z ∧ (ph_z (zx_0 Z) = 64 ∧ ph_s (zx_0 Z) = 0 ∧ ph_z (zx_1 Z) = 601088 ∧ ph_s (zx_1 Z) = 7293034) ∧ (∀ X, zx_k Z X → gv_B G = (fx_s X).heap.size)
def gdl_ : Int32 × ph_t → Prop := fun r => r.1 = 1 ∧ ph_z r.2 ≤ 601088 ∧ ph_s r.2 ≤ 7293034
theorem tr_lawret {G : gv_t} {Z : zx_t} {own : String} {nL : Nat} {pc : Nat} {L : lo_t} {h : ph_t} {v : Int32} (C : Cz G Z code own nL (some .boolean)) (E : le_ G Z) (hd : decode code pc = .ok (.ireturn, 1)) : Tr G Z gdl_ pc L [.int v] h (rz_ v h) := by
  intro r hr hg
  unfold rz_ at hr
  split at hr
  · cases hr
    obtain ⟨g1, g2, g3⟩ := hg
    dsimp only at g1 g2 g3
    subst g1
    obtain ⟨E, ⟨z1, z2, z3, z4⟩, hB⟩ := E
    refine ⟨by omega, fun X kx H locs ls a1 a2 a3 a4 a5 => ?_⟩
    have C := C X kx
    obtain ⟨b, e1, e2, e3⟩ := E X kx
    have hB := hB X kx
    rw [e1, e2, e3]
    refine va_forget (fun q hq => by rw [← hB]; exact a4.2.2 q hq) ?_
    refine W.widen (k := 601024) (n := 7293034) (by omega) (by omega) ?_
    exact lw_ret C.1 C.2.1 C.2.2.2.2.2.2.1 C.2.2.2.2.2.1 hd
  · cases hr
