/-! CORE J: Math.max, Math.min; a call that the receiver's class decides -/
def mx_ (x y : Int32) : Int32 := if x < y then y else x
def mn_ (x y : Int32) : Int32 := if y < x then y else x
def dq_ (h : ph_t) (r : Option Nat) (cs : List Nat) : Option Nat := r.bind fun a => if ph_T h a ∈ cs then some a else none
theorem dq_some {h : ph_t} {x : Option Nat} {cs : List Nat} {a : Nat} (e : dq_ h x cs = some a) : x = some a ∧ ph_T h a ∈ cs := by
  unfold dq_ at e
  cases x with
  | none => cases e
  | some b =>
    simp only [Option.bind_some] at e
    split at e
    · cases e
      exact ⟨rfl, by assumption⟩
    · cases e
theorem tr_mmax {T : Type} {G : gv_t} {Z : zx_t} {Gd : T → Prop} {cc : ByteArray} {own : String} {nL : Nat} {ret : Option FieldType} {pc : Nat} {L : lo_t} {h : ph_t} {fr lo : Nat} {idx : Nat} {rest : List Value} {x y : Int32} {o : Option T} (C : Cz G Z cc own nL ret) (Rm : Rz Z fr lo) (pc' : Nat) (hp : pc + 3 = pc') (hd : decode cc pc = .ok (.invokestatic idx, 3)) (hl : Cond.methodLink own idx Lib.Math.max.name ∈ lw_all) (hs : Cond.static Lib.Math.max.name ∈ lw_all) (hi : Cond.initialized "java/lang/Math" ∈ lw_all) (hc : Cond.code Lib.Math.max.name Lib.Math.max.code 2 (some .int) ∈ lw_all) (hf : 1 ≤ fr) (hlo : 22 ≤ lo) (hrest : (rest.map fun v => v.category).sum ≤ 8)
    (k : Tr G Z Gd pc' L (.int (mx_ x y) :: rest) h o) : Tr G Z Gd pc L (.int y :: .int x :: rest) h o := by
  subst hp
  intro r hr hg
  have K := k r hr hg
  refine ⟨K.1, fun X kx H locs ls a1 a2 a3 a4 a5 => ?_⟩
  have C := C X kx
  have Rm := Rm X kx
  have hR := cx_R C
  have K1 := K.1
  exact va_mmax C.1 C.2.1 a5.1.symm C.2.2.2.1 (cx_w C hl) (cx_w C hs) (cx_w C hi) (cx_w C hc) (by rw [Rm.1]; exact hf) (by rw [Rm.2]; omega) (by rw [hR.1]; omega) (by rw [hR.2.1]; omega) hd (K.2 X kx H locs ls a1 a2 a3 a4 a5)
theorem tr_mmin {T : Type} {G : gv_t} {Z : zx_t} {Gd : T → Prop} {cc : ByteArray} {own : String} {nL : Nat} {ret : Option FieldType} {pc : Nat} {L : lo_t} {h : ph_t} {fr lo : Nat} {idx : Nat} {rest : List Value} {x y : Int32} {o : Option T} (C : Cz G Z cc own nL ret) (Rm : Rz Z fr lo) (pc' : Nat) (hp : pc + 3 = pc') (hd : decode cc pc = .ok (.invokestatic idx, 3)) (hl : Cond.methodLink own idx Lib.Math.min.name ∈ lw_all) (hs : Cond.static Lib.Math.min.name ∈ lw_all) (hi : Cond.initialized "java/lang/Math" ∈ lw_all) (hc : Cond.code Lib.Math.min.name Lib.Math.min.code 2 (some .int) ∈ lw_all) (hf : 1 ≤ fr) (hlo : 22 ≤ lo) (hrest : (rest.map fun v => v.category).sum ≤ 8)
    (k : Tr G Z Gd pc' L (.int (mn_ x y) :: rest) h o) : Tr G Z Gd pc L (.int y :: .int x :: rest) h o := by
  subst hp
  intro r hr hg
  have K := k r hr hg
  refine ⟨K.1, fun X kx H locs ls a1 a2 a3 a4 a5 => ?_⟩
  have C := C X kx
  have Rm := Rm X kx
  have hR := cx_R C
  have K1 := K.1
  exact va_mmin C.1 C.2.1 a5.1.symm C.2.2.2.1 (cx_w C hl) (cx_w C hs) (cx_w C hi) (cx_w C hc) (by rw [Rm.1]; exact hf) (by rw [Rm.2]; omega) (by rw [hR.1]; omega) (by rw [hR.2.1]; omega) hd (K.2 X kx H locs ls a1 a2 a3 a4 a5)
theorem hw_UI {G : gv_t} {Z : zx_t} {cc : ByteArray} {own : String} {nL : Nat} {ret : Option FieldType} {pc : Nat} {L : lo_t} {h : ph_t} {fr lo : Nat} {y : MethodName} {cc2 : ByteArray} {nL2 : Nat} {ret2 : Option FieldType} {fr2 lo2 idx n : Nat} {c N : Nat} {Tb : u_T} {ty : Nat → FieldType} {As : List pa_t} {rest : List Value} {a : Nat} {st : List Value} {q : Int32 × ph_t} (C : Cz G Z cc own nL ret) (Rm : Rz Z fr lo) (hd : decode cc pc = .ok (.invokevirtual idx, 3)) {Cn owner : String} {xm : MethodName} (hG : GoodIn lw_all (va_wsU own idx Cn owner xm y (ws_ y cc2 nL2 ret2))) (hz : Cond.declares ⟨owner, xm.name, xm.desc⟩ ∈ lw_tbl) (kc : kc_ G c Cn Tb N ty) (hy : owner ≠ "java/lang/invoke/MethodHandle" ∧ owner ≠ "java/lang/invoke/VarHandle" ∧ (parseMethodDescriptor xm.desc).map (fun d => d.parameters.length) = some n) (hn : As.length = n) (hR : fr2 + 1 ≤ fr ∧ 8 + (nL2 + 11) + lo2 ≤ lo) (hst : st = (As.map (pv_ G)).reverse ++ rf_ G (some a) :: rest) (hrest : (rest.map fun v => v.category).sum ≤ 8) (M : Mt G y cc2 nL2 ret2 fr2 lo2 ((.inr <| .inr (some a)) :: As) h q.2 (.returned (ov_I q.1))) (h5 : ph_T h a = c)
    (K : HW G Z (pc + 3) L (.int q.1 :: rest) q.2) : HW G Z pc L st h := by
  obtain ⟨m1, m2⟩ := M
  refine tr_go (ov := ov_I) (r := q) (rest := rest) C m1 (fun X kx H locs ls h32 P hsz hcs => ?_) K
  have C := C X kx
  rw [← cx_l C] at m2
  obtain ⟨h9, hcell⟩ := cx_recv C kc h5 P
  rw [rf_some h9] at hst
  exact va_runU ⟨C.1, C.2.1, C.2.2.1, C.2.2.2.1, C.2.2.2.2.1⟩ m2 (va_cwA n (cx_hts C) hG rfl rfl rfl (cx_nd C hz) hy (by rw [(Rm X kx).1, (Rm X kx).2]; exact hR)) ⟨pc_blind, hcell, pc_av C h32 P h9⟩ rfl (by rw [List.length_map]; exact hn) hsz hst (F0_room hrest) hd hcs
theorem tr_callQI {T : Type} {G : gv_t} {Z : zx_t} {Gd : T → Prop} {cc : ByteArray} {own : String} {nL : Nat} {ret : Option FieldType} {pc : Nat} {L : lo_t} {h : ph_t} {fr lo : Nat} {c1 N1 nb1 : Nat} {Tb1 : u_T} {ty1 : Nat → FieldType} {Cn1 : String} {y1 : MethodName} {cb1 : ByteArray} {c2 N2 nb2 : Nat} {Tb2 : u_T} {ty2 : Nat → FieldType} {Cn2 : String} {y2 : MethodName} {cb2 : ByteArray} {c3 N3 nb3 : Nat} {Tb3 : u_T} {ty3 : Nat → FieldType} {Cn3 : String} {y3 : MethodName} {cb3 : ByteArray} {ret2 : Option FieldType} {fr2 lo2 idx n : Nat} {As : List pa_t} {rest : List Value} {x : Option Nat} {st : List Value} {f : Nat → Option (Int32 × ph_t)} {o : Int32 × ph_t → Option T} {owner : String} {xm : MethodName} (C : Cz G Z cc own nL ret) (Rm : Rz Z fr lo) (pc' : Nat) (hp : pc + 3 = pc') (hd : decode cc pc = .ok (.invokevirtual idx, 3)) (kc1 : kc_ G c1 Cn1 Tb1 N1 ty1) (hG1 : GoodIn lw_all (va_wsU own idx Cn1 owner xm y1 (ws_ y1 cb1 nb1 ret2))) (kc2 : kc_ G c2 Cn2 Tb2 N2 ty2) (hG2 : GoodIn lw_all (va_wsU own idx Cn2 owner xm y2 (ws_ y2 cb2 nb2 ret2))) (kc3 : kc_ G c3 Cn3 Tb3 N3 ty3) (hG3 : GoodIn lw_all (va_wsU own idx Cn3 owner xm y3 (ws_ y3 cb3 nb3 ret2))) (hz : Cond.declares ⟨owner, xm.name, xm.desc⟩ ∈ lw_tbl) (hy : owner ≠ "java/lang/invoke/MethodHandle" ∧ owner ≠ "java/lang/invoke/VarHandle" ∧ (parseMethodDescriptor xm.desc).map (fun d => d.parameters.length) = some n) (hn : As.length = n) (hR : fr2 + 1 ≤ fr ∧ (8 + (nb1 + 11) + lo2 ≤ lo ∧ 8 + (nb2 + 11) + lo2 ≤ lo ∧ 8 + (nb3 + 11) + lo2 ≤ lo)) (hst : st = (As.map (pv_ G)).reverse ++ rf_ G x :: rest) (hrest : (rest.map fun v => v.category).sum ≤ 8) (M : ∀ a (r : Int32 × ph_t), f a = some r → (ph_T h a = c1 → Mt G y1 cb1 nb1 ret2 fr2 lo2 ((.inr <| .inr (some a)) :: As) h r.2 (.returned (ov_I r.1))) ∧ (ph_T h a = c2 → Mt G y2 cb2 nb2 ret2 fr2 lo2 ((.inr <| .inr (some a)) :: As) h r.2 (.returned (ov_I r.1))) ∧ (ph_T h a = c3 → Mt G y3 cb3 nb3 ret2 fr2 lo2 ((.inr <| .inr (some a)) :: As) h r.2 (.returned (ov_I r.1))))
    (k : ∀ r : Int32 × ph_t, Tr G Z Gd pc' L (.int r.1 :: rest) r.2 (o r)) : Tr G Z Gd pc L st h ((dq_ h x [c1, c2, c3]).bind fun a => (f a).bind o) := by
  subst hp
  intro r hr hg
  obtain ⟨a, h1, h2⟩ := bind_some_of hr
  obtain ⟨q, h3, h4⟩ := bind_some_of h2
  obtain ⟨rfl, h5⟩ := dq_some h1
  have K := k q r h4 hg
  have M9 := M a q h3
  simp only [List.mem_cons, List.not_mem_nil, or_false] at h5
  rcases h5 with e | e | e
  · exact hw_UI C Rm hd hG1 hz kc1 hy hn ⟨hR.1, by omega⟩ hst hrest (M9.1 e) e K
  · exact hw_UI C Rm hd hG2 hz kc2 hy hn ⟨hR.1, by omega⟩ hst hrest (M9.2.1 e) e K
  · exact hw_UI C Rm hd hG3 hz kc3 hy hn ⟨hR.1, by omega⟩ hst hrest (M9.2.2 e) e K

theorem hw_UJ {G : gv_t} {Z : zx_t} {cc : ByteArray} {own : String} {nL : Nat} {ret : Option FieldType} {pc : Nat} {L : lo_t} {h : ph_t} {fr lo : Nat} {y : MethodName} {cc2 : ByteArray} {nL2 : Nat} {ret2 : Option FieldType} {fr2 lo2 idx n : Nat} {c N : Nat} {Tb : u_T} {ty : Nat → FieldType} {As : List pa_t} {rest : List Value} {a : Nat} {st : List Value} {q : Int64 × ph_t} (C : Cz G Z cc own nL ret) (Rm : Rz Z fr lo) (hd : decode cc pc = .ok (.invokevirtual idx, 3)) {Cn owner : String} {xm : MethodName} (hG : GoodIn lw_all (va_wsU own idx Cn owner xm y (ws_ y cc2 nL2 ret2))) (hz : Cond.declares ⟨owner, xm.name, xm.desc⟩ ∈ lw_tbl) (kc : kc_ G c Cn Tb N ty) (hy : owner ≠ "java/lang/invoke/MethodHandle" ∧ owner ≠ "java/lang/invoke/VarHandle" ∧ (parseMethodDescriptor xm.desc).map (fun d => d.parameters.length) = some n) (hn : As.length = n) (hR : fr2 + 1 ≤ fr ∧ 8 + (nL2 + 11) + lo2 ≤ lo) (hst : st = (As.map (pv_ G)).reverse ++ rf_ G (some a) :: rest) (hrest : (rest.map fun v => v.category).sum ≤ 8) (M : Mt G y cc2 nL2 ret2 fr2 lo2 ((.inr <| .inr (some a)) :: As) h q.2 (.returned (ov_J q.1))) (h5 : ph_T h a = c)
    (K : HW G Z (pc + 3) L (.long q.1 :: rest) q.2) : HW G Z pc L st h := by
  obtain ⟨m1, m2⟩ := M
  refine tr_go (ov := ov_J) (r := q) (rest := rest) C m1 (fun X kx H locs ls h32 P hsz hcs => ?_) K
  have C := C X kx
  rw [← cx_l C] at m2
  obtain ⟨h9, hcell⟩ := cx_recv C kc h5 P
  rw [rf_some h9] at hst
  exact va_runU ⟨C.1, C.2.1, C.2.2.1, C.2.2.2.1, C.2.2.2.2.1⟩ m2 (va_cwA n (cx_hts C) hG rfl rfl rfl (cx_nd C hz) hy (by rw [(Rm X kx).1, (Rm X kx).2]; exact hR)) ⟨pc_blind, hcell, pc_av C h32 P h9⟩ rfl (by rw [List.length_map]; exact hn) hsz hst (F0_room hrest) hd hcs
theorem tr_callQJ {T : Type} {G : gv_t} {Z : zx_t} {Gd : T → Prop} {cc : ByteArray} {own : String} {nL : Nat} {ret : Option FieldType} {pc : Nat} {L : lo_t} {h : ph_t} {fr lo : Nat} {c1 N1 nb1 : Nat} {Tb1 : u_T} {ty1 : Nat → FieldType} {Cn1 : String} {y1 : MethodName} {cb1 : ByteArray} {c2 N2 nb2 : Nat} {Tb2 : u_T} {ty2 : Nat → FieldType} {Cn2 : String} {y2 : MethodName} {cb2 : ByteArray} {c3 N3 nb3 : Nat} {Tb3 : u_T} {ty3 : Nat → FieldType} {Cn3 : String} {y3 : MethodName} {cb3 : ByteArray} {ret2 : Option FieldType} {fr2 lo2 idx n : Nat} {As : List pa_t} {rest : List Value} {x : Option Nat} {st : List Value} {f : Nat → Option (Int64 × ph_t)} {o : Int64 × ph_t → Option T} {owner : String} {xm : MethodName} (C : Cz G Z cc own nL ret) (Rm : Rz Z fr lo) (pc' : Nat) (hp : pc + 3 = pc') (hd : decode cc pc = .ok (.invokevirtual idx, 3)) (kc1 : kc_ G c1 Cn1 Tb1 N1 ty1) (hG1 : GoodIn lw_all (va_wsU own idx Cn1 owner xm y1 (ws_ y1 cb1 nb1 ret2))) (kc2 : kc_ G c2 Cn2 Tb2 N2 ty2) (hG2 : GoodIn lw_all (va_wsU own idx Cn2 owner xm y2 (ws_ y2 cb2 nb2 ret2))) (kc3 : kc_ G c3 Cn3 Tb3 N3 ty3) (hG3 : GoodIn lw_all (va_wsU own idx Cn3 owner xm y3 (ws_ y3 cb3 nb3 ret2))) (hz : Cond.declares ⟨owner, xm.name, xm.desc⟩ ∈ lw_tbl) (hy : owner ≠ "java/lang/invoke/MethodHandle" ∧ owner ≠ "java/lang/invoke/VarHandle" ∧ (parseMethodDescriptor xm.desc).map (fun d => d.parameters.length) = some n) (hn : As.length = n) (hR : fr2 + 1 ≤ fr ∧ (8 + (nb1 + 11) + lo2 ≤ lo ∧ 8 + (nb2 + 11) + lo2 ≤ lo ∧ 8 + (nb3 + 11) + lo2 ≤ lo)) (hst : st = (As.map (pv_ G)).reverse ++ rf_ G x :: rest) (hrest : (rest.map fun v => v.category).sum ≤ 8) (M : ∀ a (r : Int64 × ph_t), f a = some r → (ph_T h a = c1 → Mt G y1 cb1 nb1 ret2 fr2 lo2 ((.inr <| .inr (some a)) :: As) h r.2 (.returned (ov_J r.1))) ∧ (ph_T h a = c2 → Mt G y2 cb2 nb2 ret2 fr2 lo2 ((.inr <| .inr (some a)) :: As) h r.2 (.returned (ov_J r.1))) ∧ (ph_T h a = c3 → Mt G y3 cb3 nb3 ret2 fr2 lo2 ((.inr <| .inr (some a)) :: As) h r.2 (.returned (ov_J r.1))))
    (k : ∀ r : Int64 × ph_t, Tr G Z Gd pc' L (.long r.1 :: rest) r.2 (o r)) : Tr G Z Gd pc L st h ((dq_ h x [c1, c2, c3]).bind fun a => (f a).bind o) := by
  subst hp
  intro r hr hg
  obtain ⟨a, h1, h2⟩ := bind_some_of hr
  obtain ⟨q, h3, h4⟩ := bind_some_of h2
  obtain ⟨rfl, h5⟩ := dq_some h1
  have K := k q r h4 hg
  have M9 := M a q h3
  simp only [List.mem_cons, List.not_mem_nil, or_false] at h5
  rcases h5 with e | e | e
  · exact hw_UJ C Rm hd hG1 hz kc1 hy hn ⟨hR.1, by omega⟩ hst hrest (M9.1 e) e K
  · exact hw_UJ C Rm hd hG2 hz kc2 hy hn ⟨hR.1, by omega⟩ hst hrest (M9.2.1 e) e K
  · exact hw_UJ C Rm hd hG3 hz kc3 hy hn ⟨hR.1, by omega⟩ hst hrest (M9.2.2 e) e K

theorem lw_U {own : String} {idx : Nat} {C owner : String} {x y : MethodName} {b : ByteArray} {L : Nat} {r : Option FieldType} (h1 : Cond.methodLink own idx x ∈ lw_all) (h2 : Cond.sameMethod x.cls owner x.name x.desc ∈ lw_all) (h3 : Cond.selects C x y ∈ lw_all) (h4 : Cond.instanceMethod y ∈ lw_all) (h5 : Cond.initialized y.cls ∈ lw_all) (h6 : Cond.code y b L r ∈ lw_all) : GoodIn lw_all (va_wsU own idx C owner x y (ws_ y b L r)) := by
  refine lw_app ?_ (lw_meth h6)
  intro w hw
  simp only [List.mem_cons, List.not_mem_nil, or_false] at hw
  rcases hw with e | e | e | e | e
  · rw [e]; exact h1
  · rw [e]; exact h2
  · rw [e]; exact h3
  · rw [e]; exact h4
  · rw [e]; exact h5
theorem va_ldcsW {p : Program} {l : Launch} {e : Env} {R : Room} {s : State} {m : MethodId} {args : Array Value} {below : List Frame} {meth : Method} {c : Code} {T : State} {locs : List Loc} {cells slots : Nat}
    (X : Stand p l e R s m args below meth c T locs cells slots) (hexec : p.tables.exec = Jvm.exec) {own text : String} {index : Nat} {a : Addr} (hown : s.vm.findClass own = some m.cls)
    (hconst : (Cond.stringRef own index text).before args s = true) (hev : (Term.string own index).eval args s none [] s = some (.ref a)) {g : JFrame} (hg : g.method = m) (hdg : decode c.code g.pc = .ok (.ldc_w index, 3)) :
    ∀ target, Steps p.tables e below (T.setTop { g with pc := g.pc + 3, stack := .ref a :: g.stack }) target → Steps p.tables e below (T.setTop g) target := by
  obtain ⟨k, cf, i, a', hk, hcf, hcp, -, hr, hev'⟩ := Cond.stringRef_spec hown hconst
  cases hev.symm.trans hev'
  obtain ⟨k', hk', he⟩ := X.warmed.alike.2.2 _ _ hk
  have hr' : k'.resolved[index]? = some (some (.string a)) := by
    rcases X.warmed.entry hk hk' index with h | ⟨h, -⟩
    · rw [h]; exact hr
    · rw [hr] at h; cases h
  intro target hrest
  subst hg
  jvm_step X.here [hexec, hdg, ldc_w.wp_string (e := e) (s := T) (f := g) X.here.top hk' (by rw [he]; exact hcf) hcp hr']
  exact hrest
theorem tr_ldcsw {T : Type} {G : gv_t} {Z : zx_t} {Gd : T → Prop} {cc : ByteArray} {own : String} {nL : Nat} {ret : Option FieldType} {pc : Nat} {L : lo_t} {st : List Value} {h : ph_t} {idx i : Nat} {tx : String} {o : Option T} (C : Cz G Z cc own nL ret) (w : gw_ G) (pc' : Nat) (hp : pc + 3 = pc') (hd : decode cc pc = .ok (.ldc_w idx, 3)) (hl : Cond.stringRef own idx tx ∈ lw_tbl) (hi : st_tx[i]? = some tx)
    (k : Tr G Z Gd pc' L (rf_ G (some i) :: st) h o) : Tr G Z Gd pc L st h o := by
  subst hp
  intro r hr hg
  have K := k r hr hg
  refine ⟨K.1, fun X kx H locs ls a1 a2 a3 a4 a5 => ?_⟩
  have C := C X kx
  obtain ⟨a, ha, hR⟩ := w.2.2.2.2.1 own idx i tx hl hi
  have hi28 : i < 28 := (List.getElem?_eq_some_iff.mp hi).1
  have e : rf_ G (some i) = .ref a := by simp [rf_, rm_, ha, va_rf, show i < 64 by omega]
  have K2 := K.2 X kx H locs ls a1 a2 a3 a4 a5
  rw [e] at K2
  have hZ := vk_R.warm (cx_W C) hR
  intro T hT XX
  obtain ⟨t, b1, b2⟩ := K2 T hT XX
  exact ⟨t, va_ldcsW XX C.1 C.2.2.2.1 hZ.1 hZ.2 (g := F0 (fx_m X) pc ls st) rfl (by rw [C.2.1]; exact hd) t b1, b2⟩
