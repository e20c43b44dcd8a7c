/-! CORE L: calls of methods that may throw -/
theorem tr_callVXV {T : Type} {G : gv_t} {Z : zx_t} {Gd : T → Prop} {cc : ByteArray} {own : String} {nL : Nat} {ret : Option FieldType} {pc : Nat} {L : lo_t} {h : ph_t} {fr lo : Nat} {y : MethodName} {cc2 : ByteArray} {nL2 : Nat} {ret2 : Option FieldType} {fr2 lo2 idx n : Nat} {c N : Nat} {Tb : u_T} {ty : Nat → FieldType} {Cn : String} {As : List pa_t} {rest : List Value} {x : Option Nat} {st : List Value} {f : Nat → Option ((Unit ⊕ Nat) × ph_t)} {o : Unit → ph_t → Option T} {ox : Nat → ph_t → Option T} (C : Cz G Z cc own nL ret) (Rm : Rz Z fr lo) (pc' : Nat) (hp : pc + 3 = pc') (hd : decode cc pc = .ok (.invokevirtual idx, 3)) (hG : GoodIn lw_all (wsV own idx Cn y (ws_ y cc2 nL2 ret2))) (kc : kc_ G c Cn Tb N ty) (hy : y.cls = Cn ∧ y.cls ≠ "java/lang/invoke/MethodHandle" ∧ y.cls ≠ "java/lang/invoke/VarHandle" ∧ (parseMethodDescriptor y.desc).map (fun d => d.parameters.length) = some n) (hn : As.length = n) (hR : fr2 + 1 ≤ fr ∧ 8 + (nL2 + 11) + lo2 ≤ lo) (hst : st = (As.map (pv_ G)).reverse ++ rf_ G x :: rest) (hrest : (rest.map fun v => v.category).sum ≤ 8) (M : ∀ a (r : (Unit ⊕ Nat) × ph_t), f a = some r → MtX G y cc2 nL2 ret2 fr2 lo2 ((.inr <| .inr (some a)) :: As) h r.2 (ox_ ov_V r.1))
    (k : ∀ v h', Tr G Z Gd pc' L (rest) h' (o v h')) (kx : ∀ q h', Tx G Z Gd pc L h' (ox q h')) : Tr G Z Gd pc L st h ((dv_ h x c).bind fun a => bx_ (f a) o ox) := by
  subst hp
  intro r hr hg
  obtain ⟨a, h1, h2⟩ := bind_some_of hr
  unfold bx_ at h2
  obtain ⟨q, h3, h4⟩ := bind_some_of h2
  obtain ⟨rfl, h5⟩ := dv_some h1
  obtain ⟨m1, m2⟩ := M a q h3
  refine tr_goX (ov := ov_V) (r := q) (rest := rest) C m1 (fun X kx H locs ls h32 P hsz hcs => ?_) (fun v e => ?_) (fun n e => ?_)
  · have C := C X kx
    rw [← cx_l C] at m2
    obtain ⟨h9, hcell⟩ := cx_recv C kc h5 P
    rw [rf_some h9] at hst
    exact vx_runV ⟨C.1, C.2.1, C.2.2.1, C.2.2.2.1, C.2.2.2.2.1⟩ m2 (cwV n (cx_hts C) hG rfl rfl rfl hy (by rw [(Rm X kx).1, (Rm X kx).2]; exact hR)) ⟨pc_blind, hcell, pc_av C h32 P h9⟩ rfl (by rw [List.length_map]; exact hn) hsz hst (F0_room hrest) hd hcs
  · rw [e] at h4
    exact k v q.2 r h4 hg
  · rw [e] at h4
    exact kx n q.2 r h4 hg
theorem tr_callVXI {T : Type} {G : gv_t} {Z : zx_t} {Gd : T → Prop} {cc : ByteArray} {own : String} {nL : Nat} {ret : Option FieldType} {pc : Nat} {L : lo_t} {h : ph_t} {fr lo : Nat} {y : MethodName} {cc2 : ByteArray} {nL2 : Nat} {ret2 : Option FieldType} {fr2 lo2 idx n : Nat} {c N : Nat} {Tb : u_T} {ty : Nat → FieldType} {Cn : String} {As : List pa_t} {rest : List Value} {x : Option Nat} {st : List Value} {f : Nat → Option ((Int32 ⊕ Nat) × ph_t)} {o : Int32 → ph_t → Option T} {ox : Nat → ph_t → Option T} (C : Cz G Z cc own nL ret) (Rm : Rz Z fr lo) (pc' : Nat) (hp : pc + 3 = pc') (hd : decode cc pc = .ok (.invokevirtual idx, 3)) (hG : GoodIn lw_all (wsV own idx Cn y (ws_ y cc2 nL2 ret2))) (kc : kc_ G c Cn Tb N ty) (hy : y.cls = Cn ∧ y.cls ≠ "java/lang/invoke/MethodHandle" ∧ y.cls ≠ "java/lang/invoke/VarHandle" ∧ (parseMethodDescriptor y.desc).map (fun d => d.parameters.length) = some n) (hn : As.length = n) (hR : fr2 + 1 ≤ fr ∧ 8 + (nL2 + 11) + lo2 ≤ lo) (hst : st = (As.map (pv_ G)).reverse ++ rf_ G x :: rest) (hrest : (rest.map fun v => v.category).sum ≤ 8) (M : ∀ a (r : (Int32 ⊕ Nat) × ph_t), f a = some r → MtX G y cc2 nL2 ret2 fr2 lo2 ((.inr <| .inr (some a)) :: As) h r.2 (ox_ ov_I r.1))
    (k : ∀ v h', Tr G Z Gd pc' L (.int v :: rest) h' (o v h')) (kx : ∀ q h', Tx G Z Gd pc L h' (ox q h')) : Tr G Z Gd pc L st h ((dv_ h x c).bind fun a => bx_ (f a) o ox) := by
  subst hp
  intro r hr hg
  obtain ⟨a, h1, h2⟩ := bind_some_of hr
  unfold bx_ at h2
  obtain ⟨q, h3, h4⟩ := bind_some_of h2
  obtain ⟨rfl, h5⟩ := dv_some h1
  obtain ⟨m1, m2⟩ := M a q h3
  refine tr_goX (ov := ov_I) (r := q) (rest := rest) C m1 (fun X kx H locs ls h32 P hsz hcs => ?_) (fun v e => ?_) (fun n e => ?_)
  · have C := C X kx
    rw [← cx_l C] at m2
    obtain ⟨h9, hcell⟩ := cx_recv C kc h5 P
    rw [rf_some h9] at hst
    exact vx_runV ⟨C.1, C.2.1, C.2.2.1, C.2.2.2.1, C.2.2.2.2.1⟩ m2 (cwV n (cx_hts C) hG rfl rfl rfl hy (by rw [(Rm X kx).1, (Rm X kx).2]; exact hR)) ⟨pc_blind, hcell, pc_av C h32 P h9⟩ rfl (by rw [List.length_map]; exact hn) hsz hst (F0_room hrest) hd hcs
  · rw [e] at h4
    exact k v q.2 r h4 hg
  · rw [e] at h4
    exact kx n q.2 r h4 hg
theorem tr_callVXA {T : Type} {G : gv_t} {Z : zx_t} {Gd : T → Prop} {cc : ByteArray} {own : String} {nL : Nat} {ret : Option FieldType} {pc : Nat} {L : lo_t} {h : ph_t} {fr lo : Nat} {y : MethodName} {cc2 : ByteArray} {nL2 : Nat} {ret2 : Option FieldType} {fr2 lo2 idx n : Nat} {c N : Nat} {Tb : u_T} {ty : Nat → FieldType} {Cn : String} {As : List pa_t} {rest : List Value} {x : Option Nat} {st : List Value} {f : Nat → Option ((Option Nat ⊕ Nat) × ph_t)} {o : Option Nat → ph_t → Option T} {ox : Nat → ph_t → Option T} (C : Cz G Z cc own nL ret) (Rm : Rz Z fr lo) (pc' : Nat) (hp : pc + 3 = pc') (hd : decode cc pc = .ok (.invokevirtual idx, 3)) (hG : GoodIn lw_all (wsV own idx Cn y (ws_ y cc2 nL2 ret2))) (kc : kc_ G c Cn Tb N ty) (hy : y.cls = Cn ∧ y.cls ≠ "java/lang/invoke/MethodHandle" ∧ y.cls ≠ "java/lang/invoke/VarHandle" ∧ (parseMethodDescriptor y.desc).map (fun d => d.parameters.length) = some n) (hn : As.length = n) (hR : fr2 + 1 ≤ fr ∧ 8 + (nL2 + 11) + lo2 ≤ lo) (hst : st = (As.map (pv_ G)).reverse ++ rf_ G x :: rest) (hrest : (rest.map fun v => v.category).sum ≤ 8) (M : ∀ a (r : (Option Nat ⊕ Nat) × ph_t), f a = some r → MtX G y cc2 nL2 ret2 fr2 lo2 ((.inr <| .inr (some a)) :: As) h r.2 (ox_ (ov_A G) r.1))
    (k : ∀ v h', Tr G Z Gd pc' L (rf_ G v :: rest) h' (o v h')) (kx : ∀ q h', Tx G Z Gd pc L h' (ox q h')) : Tr G Z Gd pc L st h ((dv_ h x c).bind fun a => bx_ (f a) o ox) := by
  subst hp
  intro r hr hg
  obtain ⟨a, h1, h2⟩ := bind_some_of hr
  unfold bx_ at h2
  obtain ⟨q, h3, h4⟩ := bind_some_of h2
  obtain ⟨rfl, h5⟩ := dv_some h1
  obtain ⟨m1, m2⟩ := M a q h3
  refine tr_goX (ov := (ov_A G)) (r := q) (rest := rest) C m1 (fun X kx H locs ls h32 P hsz hcs => ?_) (fun v e => ?_) (fun n e => ?_)
  · have C := C X kx
    rw [← cx_l C] at m2
    obtain ⟨h9, hcell⟩ := cx_recv C kc h5 P
    rw [rf_some h9] at hst
    exact vx_runV ⟨C.1, C.2.1, C.2.2.1, C.2.2.2.1, C.2.2.2.2.1⟩ m2 (cwV n (cx_hts C) hG rfl rfl rfl hy (by rw [(Rm X kx).1, (Rm X kx).2]; exact hR)) ⟨pc_blind, hcell, pc_av C h32 P h9⟩ rfl (by rw [List.length_map]; exact hn) hsz hst (F0_room hrest) hd hcs
  · rw [e] at h4
    exact k v q.2 r h4 hg
  · rw [e] at h4
    exact kx n q.2 r h4 hg
