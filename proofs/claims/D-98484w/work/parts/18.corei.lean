/-! CORE I: texts, what isn't reached, narrow answers -/
def sy_ (i : Nat) : List Int32 := (st_tx.map fun s => s.toList.map fun c => Int32.ofNat c.toNat).getD i []
def sl_ (i : Nat) : Nat := (st_tx.map String.length).getD i 0
def ds_ (r : Option Nat) : Option Nat := r.bind fun i => if i < 28 then some i else none
def sv_ (r : Option Nat) : Option (Option Nat) := r.bind fun i => if i < 28 then some (some (32 + i)) else none
def sk_ (r : Option Nat) : Option Int32 := r.bind fun i => if i < 28 then some 0 else none
def nS_ (r : Option Nat) : Option Int32 := r.bind fun i => if 32 ≤ i ∧ i < 60 then some (Int32.ofNat (sl_ (i - 32))) else none
def xS_ (r : Option Nat) (k : Int32) : Option Int32 := r.bind fun i => if (32 ≤ i ∧ i < 60) ∧ 0 ≤ k.toInt ∧ k.toInt < (sl_ (i - 32) : Int) then some ((sy_ (i - 32)).getD k.toNatClampNeg 0) else none
def rt_ (ty : FieldType) (v : Int32) (h : ph_t) : Option (Int32 × ph_t) := if vp_nar ty v = v then some (v, h) else none
section CI
variable {T : Type} {G : gv_t} {Z : zx_t} {Gd : T → Prop} {cc : ByteArray} {own : String} {nL : Nat} {ret : Option FieldType} {pc : Nat} {L : lo_t} {st : List Value} {h : ph_t}
theorem tr_none : Tr G Z Gd pc L st h none := fun _ hr => by cases hr
theorem tr_ldcs {idx i : Nat} {tx : String} {o : Option T} (C : Cz G Z cc own nL ret) (w : gw_ G) (pc' : Nat) (hp : pc + 2 = pc') (hd : decode cc pc = .ok (.ldc idx, 2)) (hl : Cond.stringRef own idx tx ∈ lw_tbl) (hi : st_tx[i]? = some tx)
    (k : Tr G Z Gd pc' L (rf_ G (some i) :: st) h o) : Tr G Z Gd pc L st h o := by
  subst hp
  intro r hr hg
  have K := k r hr hg
  refine ⟨K.1, fun X kx H locs ls a1 a2 a3 a4 a5 => ?_⟩
  have C := C X kx
  obtain ⟨a, ha, hR⟩ := w.2.2.2.2.1 own idx i tx hl hi
  have hW : (gv_s G).WarmedH (fx_s X).vm := by
    obtain ⟨-, -, -, -, -, -, -, hW, -⟩ := C
    exact hW
  have hi28 : i < 28 := by
    have := (List.getElem?_eq_some_iff.mp hi).1
    exact this
  have e : rf_ G (some i) = .ref a := by simp [rf_, rm_, ha, va_rf, show i < 64 by omega]
  have K2 := K.2 X kx H locs ls a1 a2 a3 a4 a5
  rw [e] at K2
  exact va_ldcS C.1 C.2.1 C.2.2.2.1 (vk_R.warm hW hR) hd K2
theorem ds_some {x : Option Nat} {a : Nat} (e : ds_ x = some a) : x = some a ∧ a < 28 := by
  unfold ds_ at e
  cases x with
  | none => cases e
  | some b =>
    simp only [Option.bind_some] at e
    split at e
    · cases e
      exact ⟨rfl, by assumption⟩
    · cases e
theorem cx_W {X : fx_t} (C : Cx G Z X cc own nL ret) : (gv_s G).WarmedH (fx_s X).vm := by
  obtain ⟨-, -, -, -, -, -, -, hW, -⟩ := C
  exact hW
/-- a text's cell, its bytes' cell -/
theorem gt_at {X : fx_t} {H : Heap} {i : Nat} (C : Cx G Z X cc own nL ret) (w : gw_ G) (P : PR G h H) (hi : i < 28) : ∃ a b : Nat, rf_ G (some i) = .ref a ∧ rf_ G (some (32 + i)) = .ref b ∧ va_O "java/lang/String" a (fun q => gv_B G ≤ q) (fx_s X) H ∧ va_OF "java/lang/String" "coder" "B" (.int 0) a (fun q => gv_B G ≤ q) (fx_s X) H ∧ va_OF "java/lang/String" "value" "[B" (.ref b) a (fun q => gv_B G ≤ q) (fx_s X) H ∧ va_T .byte b (sl_ i) (fun j => .int ((sy_ i).getD j 0)) (fun q => gv_B G ≤ q) (fx_s X) H := by
  obtain ⟨adK, adV, hx⟩ := w.2.2.2.2.2
  obtain ⟨⟨s1, s2, s3, s4⟩, x1, x2⟩ := hx i hi
  have q := fun a (ha : a < (gv_s G).heap.size) (_ : ¬ gv_B G ≤ a) => P.2.1 a (by omega)
  have s1 := (s1.kept q).moved (cx_W C).alike
  have s2 := (s2.kept q).moved (cx_W C).alike
  have s3 := (s3.kept q).moved (cx_W C).alike
  have s4 := (s4.kept q).moved (cx_W C).alike
  exact ⟨adK i, adV i, by simp [rf_, rm_, x1, va_rf, show i < 64 by omega], by simp [rf_, rm_, x2, va_rf, show 32 + i < 64 by omega], s1, s2, s3, s4⟩
theorem tr_sval {idx : Nat} {x : Option Nat} {o : Option Nat → Option T} (C : Cz G Z cc own nL ret) (w : gw_ G) (pc' : Nat) (hp : pc + 3 = pc') (hd : decode cc pc = .ok (.getfield idx, 3)) (hl : Cond.fieldLink own idx "java/lang/String" "value" "[B" ∈ lw_all)
    (k : ∀ v, Tr G Z Gd pc' L (rf_ G v :: st) h (o v)) : Tr G Z Gd pc L (rf_ G x :: st) h ((sv_ x).bind o) := by
  subst hp
  intro r hr hg
  obtain ⟨v, h1, h2⟩ := bind_some_of hr
  have h3 : ∃ i, x = some i ∧ i < 28 ∧ v = some (32 + i) := by
    unfold sv_ at h1
    cases x with
    | none => cases h1
    | some i =>
      simp only [Option.bind_some] at h1
      split at h1
      · exact ⟨i, rfl, by assumption, (Option.some.inj h1).symm⟩
      · cases h1
  obtain ⟨i, rfl, hi, rfl⟩ := h3
  have K := k _ r h2 hg
  refine ⟨K.1, fun X kx H locs ls a1 a2 a3 a4 a5 => ?_⟩
  have C := C X kx
  obtain ⟨a, b, e1, e2, s1, s2, s3, s4⟩ := gt_at C w a3 hi
  have K2 := K.2 X kx H locs ls a1 a2 a3 a4 a5
  rw [e2] at K2
  rw [e1]
  obtain ⟨cf, k9, fi, f, cell, g1, g2, g3, g4, g5, g6⟩ := s3
  exact W.getf C.1 C.2.1 C.2.2.2.1 (cx_w C hl) g1 g2 g3 g4 (v := .ref b) g5 rfl rfl hd K2
theorem tr_scod {idx : Nat} {x : Option Nat} {o : Int32 → Option T} (C : Cz G Z cc own nL ret) (w : gw_ G) (pc' : Nat) (hp : pc + 3 = pc') (hd : decode cc pc = .ok (.getfield idx, 3)) (hl : Cond.fieldLink own idx "java/lang/String" "coder" "B" ∈ lw_all)
    (k : ∀ v, Tr G Z Gd pc' L (.int v :: st) h (o v)) : Tr G Z Gd pc L (rf_ G x :: st) h ((sk_ x).bind o) := by
  subst hp
  intro r hr hg
  obtain ⟨v, h1, h2⟩ := bind_some_of hr
  have h3 : ∃ i, x = some i ∧ i < 28 ∧ v = 0 := by
    unfold sk_ at h1
    cases x with
    | none => cases h1
    | some i =>
      simp only [Option.bind_some] at h1
      split at h1
      · exact ⟨i, rfl, by assumption, (Option.some.inj h1).symm⟩
      · cases h1
  obtain ⟨i, rfl, hi, rfl⟩ := h3
  have K := k _ r h2 hg
  refine ⟨K.1, fun X kx H locs ls a1 a2 a3 a4 a5 => ?_⟩
  have C := C X kx
  obtain ⟨a, b, e1, e2, s1, s2, s3, s4⟩ := gt_at C w a3 hi
  rw [e1]
  obtain ⟨cf, k9, fi, f, cell, g1, g2, g3, g4, g5, g6⟩ := s2
  exact W.getf C.1 C.2.1 C.2.2.2.1 (cx_w C hl) g1 g2 g3 g4 (v := .int 0) g5 rfl rfl hd (K.2 X kx H locs ls a1 a2 a3 a4 a5)
theorem sl_lt : ∀ i, i < 28 → sl_ i < 20 := by decide +kernel
theorem tr_alenS {x : Option Nat} {o : Int32 → Option T} (C : Cz G Z cc own nL ret) (w : gw_ G) (pc' : Nat) (hp : pc + 1 = pc') (hd : decode cc pc = .ok (.arraylength, 1))
    (k : ∀ v, Tr G Z Gd pc' L (.int v :: st) h (o v)) : Tr G Z Gd pc L (rf_ G x :: st) h ((nS_ x).bind o) := by
  subst hp
  intro r hr hg
  obtain ⟨v, h1, h2⟩ := bind_some_of hr
  have h3 : ∃ i, x = some (32 + i) ∧ i < 28 ∧ v = Int32.ofNat (sl_ i) := by
    unfold nS_ at h1
    cases x with
    | none => cases h1
    | some i =>
      simp only [Option.bind_some] at h1
      split at h1
      · rename_i q
        exact ⟨i - 32, by congr 1; omega, by omega, (Option.some.inj h1).symm⟩
      · cases h1
  obtain ⟨i, rfl, hi, rfl⟩ := h3
  have K := k _ r h2 hg
  refine ⟨K.1, fun X kx H locs ls a1 a2 a3 a4 a5 => ?_⟩
  have C := C X kx
  obtain ⟨a, b, e1, e2, s1, s2, s3, s4⟩ := gt_at C w a3 hi
  rw [e2]
  obtain ⟨cell, c1, c2, c3, c4, c5, c6, c7⟩ := s4
  exact W.alen C.1 C.2.1 c1 c2 c5 rfl rfl hd (K.2 X kx H locs ls a1 a2 a3 a4 a5)
theorem tr_baldS {x : Option Nat} {i : Int32} {o : Int32 → Option T} (C : Cz G Z cc own nL ret) (w : gw_ G) (pc' : Nat) (hp : pc + 1 = pc') (hd : decode cc pc = .ok (.baload, 1))
    (k : ∀ v, Tr G Z Gd pc' L (.int v :: st) h (o v)) : Tr G Z Gd pc L (.int i :: rf_ G x :: st) h ((xS_ x i).bind o) := by
  subst hp
  intro r hr hg
  obtain ⟨v, h1, h2⟩ := bind_some_of hr
  have h3 : ∃ j, x = some (32 + j) ∧ j < 28 ∧ 0 ≤ i.toInt ∧ i.toInt < (sl_ j : Int) ∧ v = (sy_ j).getD i.toNatClampNeg 0 := by
    unfold xS_ at h1
    cases x with
    | none => cases h1
    | some j =>
      simp only [Option.bind_some] at h1
      split at h1
      · rename_i q
        exact ⟨j - 32, by congr 1; omega, by omega, q.2.1, q.2.2, (Option.some.inj h1).symm⟩
      · cases h1
  obtain ⟨j, rfl, hi, i1, i2, rfl⟩ := h3
  have K := k _ r h2 hg
  refine ⟨K.1, fun X kx H locs ls a1 a2 a3 a4 a5 => ?_⟩
  have C := C X kx
  obtain ⟨a, b, e1, e2, s1, s2, s3, s4⟩ := gt_at C w a3 hi
  rw [e2]
  obtain ⟨cell, c1, c2, c3, c4, c5, c6, c7⟩ := s4
  obtain ⟨j1, j2⟩ := ix_in i1 i2
  exact W.bald C.1 C.2.1 c1 c2 c3 (fun q => by rcases q with q | q; exact j1 (Or.inl q); omega) (c6 _ j2) rfl rfl hd (K.2 X kx H locs ls a1 a2 a3 a4 a5)
set_option maxHeartbeats 1000000 in
theorem tr_callTI {fr lo : Nat} {y : MethodName} {cc2 : ByteArray} {nL2 : Nat} {ret2 : Option FieldType} {fr2 lo2 idx n : Nat} {As : List pa_t} {rest : List Value} {x : Option Nat} {st : List Value} {f : Nat → Option (Int32 × ph_t)} {o : Int32 × ph_t → Option T} (C : Cz G Z cc own nL ret) (w : gw_ G) (Rm : Rz Z fr lo) (pc' : Nat) (hp : pc + 3 = pc') (hd : decode cc pc = .ok (.invokevirtual idx, 3)) (hG : GoodIn lw_all (wsV own idx "java/lang/String" y (ws_ y cc2 nL2 ret2))) (hy : y.cls = "java/lang/String" ∧ y.cls ≠ "java/lang/invoke/MethodHandle" ∧ y.cls ≠ "java/lang/invoke/VarHandle" ∧ (parseMethodDescriptor y.desc).map (fun d => d.parameters.length) = some n) (hn : As.length = n) (hR : fr2 + 1 ≤ fr ∧ 8 + (nL2 + 11) + lo2 ≤ lo) (hst : st = (As.map (pv_ G)).reverse ++ rf_ G x :: rest) (hrest : (rest.map fun v => v.category).sum ≤ 8) (M : ∀ a (r : Int32 × ph_t), f a = some r → Mt G y cc2 nL2 ret2 fr2 lo2 ((.inr <| .inr (some a)) :: As) h r.2 (.returned (ov_I r.1)))
    (k : ∀ r : Int32 × ph_t, Tr G Z Gd pc' L (.int r.1 :: rest) r.2 (o r)) : Tr G Z Gd pc L st h ((ds_ x).bind fun a => (f a).bind o) := by
  subst hp
  intro r hr hg
  obtain ⟨a, h1, h2⟩ := bind_some_of hr
  obtain ⟨q, h3, h4⟩ := bind_some_of h2
  obtain ⟨rfl, h5⟩ := ds_some h1
  have K := k q r h4 hg
  obtain ⟨m1, m2⟩ := M a q h3
  refine tr_go (ov := ov_I) (r := q) (rest := rest) C m1 (fun X kx H locs ls h32 P hsz hcs => ?_) K
  have C := C X kx
  rw [← cx_l C] at m2
  obtain ⟨a9, b, e1, e2, s1, s2, s3, s4⟩ := gt_at C w P h5
  obtain ⟨cell, g1, g2, g3, g4⟩ := s1
  have hA : ∀ U : State, U.heap = H → (fx_s X).WarmedH U.vm → pc_ G ((.inr <| .inr (some a)) :: As) h (Value.ref a9 :: As.map (pv_ G)).toArray U := by
    have e : (((.inr <| .inr (some a)) :: As : List pa_t).map (pv_ G)) = Value.ref a9 :: As.map (pv_ G) := by
      rw [List.map_cons, show pv_ G (.inr <| .inr (some a)) = _ from e1]
    rw [← e]
    exact pc_at C h32 P
  rw [e1] at hst
  exact va_runV ⟨C.1, C.2.1, C.2.2.1, C.2.2.2.1, C.2.2.2.2.1⟩ m2 (cwV n (cx_hts C) hG rfl rfl rfl hy (by rw [(Rm X kx).1, (Rm X kx).2]; exact hR)) ⟨pc_blind, ⟨cell, g1, g2, g3⟩, hA⟩ rfl (by rw [List.length_map]; exact hn) hsz hst (F0_room hrest) hd hcs
end CI
theorem nar_int {ty : FieldType} {v : Int32} (h : vp_nar ty v = v) : narrow ty (.int v) = .int v := by
  unfold vp_nar at h
  cases ty <;> first | rfl | (simp only [narrow] at h ⊢; rw [h])
theorem tr_rret {G : gv_t} {Z : zx_t} {cc : ByteArray} {own : String} {nL : Nat} {pc : Nat} {L : lo_t} {h : ph_t} {oE : Outcome} {ty : FieldType} {v : Int32} (C : Cz G Z cc own nL (some ty)) (E : qe_ G Z oE) (hd : decode cc pc = .ok (.ireturn, 1)) : Tr G Z (gd_ ov_I oE (zx_1 Z)) pc L [.int v] h (rt_ ty v h) := by
  intro r hr hg
  unfold rt_ at hr
  split at hr
  · rename_i q
    cases hr
    obtain ⟨g1, g2⟩ := hg
    dsimp only at g1 g2
    refine ⟨by rw [g2]; exact ⟨Nat.le_refl _, Nat.le_refl _⟩, fun X kx H locs ls a1 a2 a3 a4 a5 => ?_⟩
    have C := C X kx
    rw [E X kx, g2]
    exact W.zret C.1 C.2.1 C.2.2.2.2.2.2.1 (nar_int q) (fun t ht hW => ⟨g1.symm, by rw [ht]; exact a3⟩) a4.2.2 hd C.2.2.2.2.2.1
  · cases hr
