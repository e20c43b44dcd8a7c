/-! CORE C: a row an instruction -/
def nq_ {T : Type} (x : Option Nat) (a b : Option T) : Option T := match x with
  | none => a
  | some q => if 64 ≤ q then b else none
theorem tr_iconst {T : Type} {G : gv_t} {Z : zx_t} {Gd : T → Prop} {cc : ByteArray} {own : String} {nL : Nat} {ret : Option FieldType} {pc : Nat} {L : lo_t} {st : List Value} {h : ph_t} {o : Option T} {n : Int} {v : Int32} (C : Cz G Z cc own nL ret) (pc' : Nat) (hp : pc + 1 = pc') (hd : decode cc pc = .ok (.iconst n, 1)) (hv : Int32.ofInt n = v)
    (k : Tr G Z Gd pc' L (.int v :: st) h o) : Tr G Z Gd pc L (st) h o := by
  subst hp
  intro r hr hg
  have K := k r hr hg
  exact ⟨K.1, fun X kx H locs ls a b c d e => have C := C X kx; lv_iconst C.1 C.2.1 hd hv (K.2 X kx H locs ls a b c d e)⟩
theorem tr_bipush {T : Type} {G : gv_t} {Z : zx_t} {Gd : T → Prop} {cc : ByteArray} {own : String} {nL : Nat} {ret : Option FieldType} {pc : Nat} {L : lo_t} {st : List Value} {h : ph_t} {o : Option T} {n : Int} {v : Int32} (C : Cz G Z cc own nL ret) (pc' : Nat) (hp : pc + 2 = pc') (hd : decode cc pc = .ok (.bipush n, 2)) (hv : (Int8.ofInt n).toInt32 = v)
    (k : Tr G Z Gd pc' L (.int v :: st) h o) : Tr G Z Gd pc L (st) h o := by
  subst hp
  intro r hr hg
  have K := k r hr hg
  exact ⟨K.1, fun X kx H locs ls a b c d e => have C := C X kx; lv_bipush C.1 C.2.1 hd hv (K.2 X kx H locs ls a b c d e)⟩
theorem tr_sipush {T : Type} {G : gv_t} {Z : zx_t} {Gd : T → Prop} {cc : ByteArray} {own : String} {nL : Nat} {ret : Option FieldType} {pc : Nat} {L : lo_t} {st : List Value} {h : ph_t} {o : Option T} {n : Int} {v : Int32} (C : Cz G Z cc own nL ret) (pc' : Nat) (hp : pc + 3 = pc') (hd : decode cc pc = .ok (.sipush n, 3)) (hv : (Int16.ofInt n).toInt32 = v)
    (k : Tr G Z Gd pc' L (.int v :: st) h o) : Tr G Z Gd pc L (st) h o := by
  subst hp
  intro r hr hg
  have K := k r hr hg
  exact ⟨K.1, fun X kx H locs ls a b c d e => have C := C X kx; lv_sipush C.1 C.2.1 hd hv (K.2 X kx H locs ls a b c d e)⟩
theorem tr_lconst {T : Type} {G : gv_t} {Z : zx_t} {Gd : T → Prop} {cc : ByteArray} {own : String} {nL : Nat} {ret : Option FieldType} {pc : Nat} {L : lo_t} {st : List Value} {h : ph_t} {o : Option T} {n : Fin 2} {v : Int64} (C : Cz G Z cc own nL ret) (pc' : Nat) (hp : pc + 1 = pc') (hd : decode cc pc = .ok (.lconst n, 1)) (hv : Int64.ofNat (n : Nat) = v)
    (k : Tr G Z Gd pc' L (.long v :: st) h o) : Tr G Z Gd pc L (st) h o := by
  subst hp
  intro r hr hg
  have K := k r hr hg
  exact ⟨K.1, fun X kx H locs ls a b c d e => have C := C X kx; lv_lconst C.1 C.2.1 hd hv (K.2 X kx H locs ls a b c d e)⟩
theorem tr_null {T : Type} {G : gv_t} {Z : zx_t} {Gd : T → Prop} {cc : ByteArray} {own : String} {nL : Nat} {ret : Option FieldType} {pc : Nat} {L : lo_t} {st : List Value} {h : ph_t} {o : Option T} (C : Cz G Z cc own nL ret) (pc' : Nat) (hp : pc + 1 = pc') (hd : decode cc pc = .ok (.aconst_null, 1))
    (k : Tr G Z Gd pc' L (rf_ G none :: st) h o) : Tr G Z Gd pc L (st) h o := by
  subst hp
  intro r hr hg
  have K := k r hr hg
  exact ⟨K.1, fun X kx H locs ls a b c d e => have C := C X kx; lv_null C.1 C.2.1 hd (K.2 X kx H locs ls a b c d e)⟩
theorem tr_iadd {T : Type} {G : gv_t} {Z : zx_t} {Gd : T → Prop} {cc : ByteArray} {own : String} {nL : Nat} {ret : Option FieldType} {pc : Nat} {L : lo_t} {st : List Value} {h : ph_t} {o : Option T} {x y : Int32} (C : Cz G Z cc own nL ret) (pc' : Nat) (hp : pc + 1 = pc') (hd : decode cc pc = .ok (.iadd, 1))
    (k : Tr G Z Gd pc' L (.int (x + y) :: st) h o) : Tr G Z Gd pc L (.int y :: .int x :: st) h o := by
  subst hp
  intro r hr hg
  have K := k r hr hg
  exact ⟨K.1, fun X kx H locs ls a b c d e => have C := C X kx; lv_iadd C.1 C.2.1 hd (K.2 X kx H locs ls a b c d e)⟩
theorem tr_isub {T : Type} {G : gv_t} {Z : zx_t} {Gd : T → Prop} {cc : ByteArray} {own : String} {nL : Nat} {ret : Option FieldType} {pc : Nat} {L : lo_t} {st : List Value} {h : ph_t} {o : Option T} {x y : Int32} (C : Cz G Z cc own nL ret) (pc' : Nat) (hp : pc + 1 = pc') (hd : decode cc pc = .ok (.isub, 1))
    (k : Tr G Z Gd pc' L (.int (x - y) :: st) h o) : Tr G Z Gd pc L (.int y :: .int x :: st) h o := by
  subst hp
  intro r hr hg
  have K := k r hr hg
  exact ⟨K.1, fun X kx H locs ls a b c d e => have C := C X kx; lv_isub C.1 C.2.1 hd (K.2 X kx H locs ls a b c d e)⟩
theorem tr_imul {T : Type} {G : gv_t} {Z : zx_t} {Gd : T → Prop} {cc : ByteArray} {own : String} {nL : Nat} {ret : Option FieldType} {pc : Nat} {L : lo_t} {st : List Value} {h : ph_t} {o : Option T} {x y : Int32} (C : Cz G Z cc own nL ret) (pc' : Nat) (hp : pc + 1 = pc') (hd : decode cc pc = .ok (.imul, 1))
    (k : Tr G Z Gd pc' L (.int (x * y) :: st) h o) : Tr G Z Gd pc L (.int y :: .int x :: st) h o := by
  subst hp
  intro r hr hg
  have K := k r hr hg
  exact ⟨K.1, fun X kx H locs ls a b c d e => have C := C X kx; lv_imul C.1 C.2.1 hd (K.2 X kx H locs ls a b c d e)⟩
theorem tr_iand {T : Type} {G : gv_t} {Z : zx_t} {Gd : T → Prop} {cc : ByteArray} {own : String} {nL : Nat} {ret : Option FieldType} {pc : Nat} {L : lo_t} {st : List Value} {h : ph_t} {o : Option T} {x y : Int32} (C : Cz G Z cc own nL ret) (pc' : Nat) (hp : pc + 1 = pc') (hd : decode cc pc = .ok (.iand, 1))
    (k : Tr G Z Gd pc' L (.int (x &&& y) :: st) h o) : Tr G Z Gd pc L (.int y :: .int x :: st) h o := by
  subst hp
  intro r hr hg
  have K := k r hr hg
  exact ⟨K.1, fun X kx H locs ls a b c d e => have C := C X kx; lv_iand C.1 C.2.1 hd (K.2 X kx H locs ls a b c d e)⟩
theorem tr_ior {T : Type} {G : gv_t} {Z : zx_t} {Gd : T → Prop} {cc : ByteArray} {own : String} {nL : Nat} {ret : Option FieldType} {pc : Nat} {L : lo_t} {st : List Value} {h : ph_t} {o : Option T} {x y : Int32} (C : Cz G Z cc own nL ret) (pc' : Nat) (hp : pc + 1 = pc') (hd : decode cc pc = .ok (.ior, 1))
    (k : Tr G Z Gd pc' L (.int (x ||| y) :: st) h o) : Tr G Z Gd pc L (.int y :: .int x :: st) h o := by
  subst hp
  intro r hr hg
  have K := k r hr hg
  exact ⟨K.1, fun X kx H locs ls a b c d e => have C := C X kx; lv_ior C.1 C.2.1 hd (K.2 X kx H locs ls a b c d e)⟩
theorem tr_ixor {T : Type} {G : gv_t} {Z : zx_t} {Gd : T → Prop} {cc : ByteArray} {own : String} {nL : Nat} {ret : Option FieldType} {pc : Nat} {L : lo_t} {st : List Value} {h : ph_t} {o : Option T} {x y : Int32} (C : Cz G Z cc own nL ret) (pc' : Nat) (hp : pc + 1 = pc') (hd : decode cc pc = .ok (.ixor, 1))
    (k : Tr G Z Gd pc' L (.int (x ^^^ y) :: st) h o) : Tr G Z Gd pc L (.int y :: .int x :: st) h o := by
  subst hp
  intro r hr hg
  have K := k r hr hg
  exact ⟨K.1, fun X kx H locs ls a b c d e => have C := C X kx; lv_ixor C.1 C.2.1 hd (K.2 X kx H locs ls a b c d e)⟩
theorem tr_ishl {T : Type} {G : gv_t} {Z : zx_t} {Gd : T → Prop} {cc : ByteArray} {own : String} {nL : Nat} {ret : Option FieldType} {pc : Nat} {L : lo_t} {st : List Value} {h : ph_t} {o : Option T} {x y : Int32} (C : Cz G Z cc own nL ret) (pc' : Nat) (hp : pc + 1 = pc') (hd : decode cc pc = .ok (.ishl, 1))
    (k : Tr G Z Gd pc' L (.int (il_ x y) :: st) h o) : Tr G Z Gd pc L (.int y :: .int x :: st) h o := by
  subst hp
  intro r hr hg
  have K := k r hr hg
  exact ⟨K.1, fun X kx H locs ls a b c d e => have C := C X kx; lv_ishl C.1 C.2.1 hd (K.2 X kx H locs ls a b c d e)⟩
theorem tr_ishr {T : Type} {G : gv_t} {Z : zx_t} {Gd : T → Prop} {cc : ByteArray} {own : String} {nL : Nat} {ret : Option FieldType} {pc : Nat} {L : lo_t} {st : List Value} {h : ph_t} {o : Option T} {x y : Int32} (C : Cz G Z cc own nL ret) (pc' : Nat) (hp : pc + 1 = pc') (hd : decode cc pc = .ok (.ishr, 1))
    (k : Tr G Z Gd pc' L (.int (is_ x y) :: st) h o) : Tr G Z Gd pc L (.int y :: .int x :: st) h o := by
  subst hp
  intro r hr hg
  have K := k r hr hg
  exact ⟨K.1, fun X kx H locs ls a b c d e => have C := C X kx; lv_ishr C.1 C.2.1 hd (K.2 X kx H locs ls a b c d e)⟩
theorem tr_ladd {T : Type} {G : gv_t} {Z : zx_t} {Gd : T → Prop} {cc : ByteArray} {own : String} {nL : Nat} {ret : Option FieldType} {pc : Nat} {L : lo_t} {st : List Value} {h : ph_t} {o : Option T} {x y : Int64} (C : Cz G Z cc own nL ret) (pc' : Nat) (hp : pc + 1 = pc') (hd : decode cc pc = .ok (.ladd, 1))
    (k : Tr G Z Gd pc' L (.long (x + y) :: st) h o) : Tr G Z Gd pc L (.long y :: .long x :: st) h o := by
  subst hp
  intro r hr hg
  have K := k r hr hg
  exact ⟨K.1, fun X kx H locs ls a b c d e => have C := C X kx; lv_ladd C.1 C.2.1 hd (K.2 X kx H locs ls a b c d e)⟩
theorem tr_lsub {T : Type} {G : gv_t} {Z : zx_t} {Gd : T → Prop} {cc : ByteArray} {own : String} {nL : Nat} {ret : Option FieldType} {pc : Nat} {L : lo_t} {st : List Value} {h : ph_t} {o : Option T} {x y : Int64} (C : Cz G Z cc own nL ret) (pc' : Nat) (hp : pc + 1 = pc') (hd : decode cc pc = .ok (.lsub, 1))
    (k : Tr G Z Gd pc' L (.long (x - y) :: st) h o) : Tr G Z Gd pc L (.long y :: .long x :: st) h o := by
  subst hp
  intro r hr hg
  have K := k r hr hg
  exact ⟨K.1, fun X kx H locs ls a b c d e => have C := C X kx; lv_lsub C.1 C.2.1 hd (K.2 X kx H locs ls a b c d e)⟩
theorem tr_lmul {T : Type} {G : gv_t} {Z : zx_t} {Gd : T → Prop} {cc : ByteArray} {own : String} {nL : Nat} {ret : Option FieldType} {pc : Nat} {L : lo_t} {st : List Value} {h : ph_t} {o : Option T} {x y : Int64} (C : Cz G Z cc own nL ret) (pc' : Nat) (hp : pc + 1 = pc') (hd : decode cc pc = .ok (.lmul, 1))
    (k : Tr G Z Gd pc' L (.long (x * y) :: st) h o) : Tr G Z Gd pc L (.long y :: .long x :: st) h o := by
  subst hp
  intro r hr hg
  have K := k r hr hg
  exact ⟨K.1, fun X kx H locs ls a b c d e => have C := C X kx; lv_lmul C.1 C.2.1 hd (K.2 X kx H locs ls a b c d e)⟩
theorem tr_land {T : Type} {G : gv_t} {Z : zx_t} {Gd : T → Prop} {cc : ByteArray} {own : String} {nL : Nat} {ret : Option FieldType} {pc : Nat} {L : lo_t} {st : List Value} {h : ph_t} {o : Option T} {x y : Int64} (C : Cz G Z cc own nL ret) (pc' : Nat) (hp : pc + 1 = pc') (hd : decode cc pc = .ok (.land, 1))
    (k : Tr G Z Gd pc' L (.long (x &&& y) :: st) h o) : Tr G Z Gd pc L (.long y :: .long x :: st) h o := by
  subst hp
  intro r hr hg
  have K := k r hr hg
  exact ⟨K.1, fun X kx H locs ls a b c d e => have C := C X kx; lv_land C.1 C.2.1 hd (K.2 X kx H locs ls a b c d e)⟩
theorem tr_lor {T : Type} {G : gv_t} {Z : zx_t} {Gd : T → Prop} {cc : ByteArray} {own : String} {nL : Nat} {ret : Option FieldType} {pc : Nat} {L : lo_t} {st : List Value} {h : ph_t} {o : Option T} {x y : Int64} (C : Cz G Z cc own nL ret) (pc' : Nat) (hp : pc + 1 = pc') (hd : decode cc pc = .ok (.lor, 1))
    (k : Tr G Z Gd pc' L (.long (x ||| y) :: st) h o) : Tr G Z Gd pc L (.long y :: .long x :: st) h o := by
  subst hp
  intro r hr hg
  have K := k r hr hg
  exact ⟨K.1, fun X kx H locs ls a b c d e => have C := C X kx; lv_lor C.1 C.2.1 hd (K.2 X kx H locs ls a b c d e)⟩
theorem tr_lxor {T : Type} {G : gv_t} {Z : zx_t} {Gd : T → Prop} {cc : ByteArray} {own : String} {nL : Nat} {ret : Option FieldType} {pc : Nat} {L : lo_t} {st : List Value} {h : ph_t} {o : Option T} {x y : Int64} (C : Cz G Z cc own nL ret) (pc' : Nat) (hp : pc + 1 = pc') (hd : decode cc pc = .ok (.lxor, 1))
    (k : Tr G Z Gd pc' L (.long (x ^^^ y) :: st) h o) : Tr G Z Gd pc L (.long y :: .long x :: st) h o := by
  subst hp
  intro r hr hg
  have K := k r hr hg
  exact ⟨K.1, fun X kx H locs ls a b c d e => have C := C X kx; lv_lxor C.1 C.2.1 hd (K.2 X kx H locs ls a b c d e)⟩
theorem tr_idivK {T : Type} {G : gv_t} {Z : zx_t} {Gd : T → Prop} {cc : ByteArray} {own : String} {nL : Nat} {ret : Option FieldType} {pc : Nat} {L : lo_t} {st : List Value} {h : ph_t} {o : Option T} {x y : Int32} (C : Cz G Z cc own nL ret) (pc' : Nat) (hp : pc + 1 = pc') (hd : decode cc pc = .ok (.idiv, 1)) (hy : ¬ y = 0)
    (k : Tr G Z Gd pc' L (.int (x / y) :: st) h o) : Tr G Z Gd pc L (.int y :: .int x :: st) h o := by
  subst hp
  intro r hr hg
  have K := k r hr hg
  exact ⟨K.1, fun X kx H locs ls a b c d e => have C := C X kx; lv_idiv C.1 C.2.1 hd hy (K.2 X kx H locs ls a b c d e)⟩
theorem tr_iremK {T : Type} {G : gv_t} {Z : zx_t} {Gd : T → Prop} {cc : ByteArray} {own : String} {nL : Nat} {ret : Option FieldType} {pc : Nat} {L : lo_t} {st : List Value} {h : ph_t} {o : Option T} {x y : Int32} (C : Cz G Z cc own nL ret) (pc' : Nat) (hp : pc + 1 = pc') (hd : decode cc pc = .ok (.irem, 1)) (hy : ¬ y = 0)
    (k : Tr G Z Gd pc' L (.int (ir_ x y) :: st) h o) : Tr G Z Gd pc L (.int y :: .int x :: st) h o := by
  subst hp
  intro r hr hg
  have K := k r hr hg
  exact ⟨K.1, fun X kx H locs ls a b c d e => have C := C X kx; lv_irem C.1 C.2.1 hd hy (K.2 X kx H locs ls a b c d e)⟩
theorem tr_ldivK {T : Type} {G : gv_t} {Z : zx_t} {Gd : T → Prop} {cc : ByteArray} {own : String} {nL : Nat} {ret : Option FieldType} {pc : Nat} {L : lo_t} {st : List Value} {h : ph_t} {o : Option T} {x y : Int64} (C : Cz G Z cc own nL ret) (pc' : Nat) (hp : pc + 1 = pc') (hd : decode cc pc = .ok (.ldiv, 1)) (hy : ¬ y = 0)
    (k : Tr G Z Gd pc' L (.long (x / y) :: st) h o) : Tr G Z Gd pc L (.long y :: .long x :: st) h o := by
  subst hp
  intro r hr hg
  have K := k r hr hg
  exact ⟨K.1, fun X kx H locs ls a b c d e => have C := C X kx; lv_ldiv C.1 C.2.1 hd hy (K.2 X kx H locs ls a b c d e)⟩
theorem tr_lremK {T : Type} {G : gv_t} {Z : zx_t} {Gd : T → Prop} {cc : ByteArray} {own : String} {nL : Nat} {ret : Option FieldType} {pc : Nat} {L : lo_t} {st : List Value} {h : ph_t} {o : Option T} {x y : Int64} (C : Cz G Z cc own nL ret) (pc' : Nat) (hp : pc + 1 = pc') (hd : decode cc pc = .ok (.lrem, 1)) (hy : ¬ y = 0)
    (k : Tr G Z Gd pc' L (.long (lr_ x y) :: st) h o) : Tr G Z Gd pc L (.long y :: .long x :: st) h o := by
  subst hp
  intro r hr hg
  have K := k r hr hg
  exact ⟨K.1, fun X kx H locs ls a b c d e => have C := C X kx; lv_lrem C.1 C.2.1 hd hy (K.2 X kx H locs ls a b c d e)⟩
theorem tr_iushr {T : Type} {G : gv_t} {Z : zx_t} {Gd : T → Prop} {cc : ByteArray} {own : String} {nL : Nat} {ret : Option FieldType} {pc : Nat} {L : lo_t} {st : List Value} {h : ph_t} {o : Option T} {x y : Int32} (C : Cz G Z cc own nL ret) (pc' : Nat) (hp : pc + 1 = pc') (hd : decode cc pc = .ok (.iushr, 1))
    (k : Tr G Z Gd pc' L (.int (iu_ x y) :: st) h o) : Tr G Z Gd pc L (.int y :: .int x :: st) h o := by
  subst hp
  intro r hr hg
  have K := k r hr hg
  exact ⟨K.1, fun X kx H locs ls a b c d e => have C := C X kx; lv_iushr C.1 C.2.1 hd rfl (K.2 X kx H locs ls a b c d e)⟩
theorem tr_lushr {T : Type} {G : gv_t} {Z : zx_t} {Gd : T → Prop} {cc : ByteArray} {own : String} {nL : Nat} {ret : Option FieldType} {pc : Nat} {L : lo_t} {st : List Value} {h : ph_t} {o : Option T} {x : Int64} {y : Int32} (C : Cz G Z cc own nL ret) (pc' : Nat) (hp : pc + 1 = pc') (hd : decode cc pc = .ok (.lushr, 1))
    (k : Tr G Z Gd pc' L (.long (lu_ x y) :: st) h o) : Tr G Z Gd pc L (.int y :: .long x :: st) h o := by
  subst hp
  intro r hr hg
  have K := k r hr hg
  exact ⟨K.1, fun X kx H locs ls a b c d e => have C := C X kx; lv_lushr C.1 C.2.1 hd rfl (K.2 X kx H locs ls a b c d e)⟩
theorem tr_lshl {T : Type} {G : gv_t} {Z : zx_t} {Gd : T → Prop} {cc : ByteArray} {own : String} {nL : Nat} {ret : Option FieldType} {pc : Nat} {L : lo_t} {st : List Value} {h : ph_t} {o : Option T} {x : Int64} {y : Int32} (C : Cz G Z cc own nL ret) (pc' : Nat) (hp : pc + 1 = pc') (hd : decode cc pc = .ok (.lshl, 1))
    (k : Tr G Z Gd pc' L (.long (ll_ x y) :: st) h o) : Tr G Z Gd pc L (.int y :: .long x :: st) h o := by
  subst hp
  intro r hr hg
  have K := k r hr hg
  exact ⟨K.1, fun X kx H locs ls a b c d e => have C := C X kx; lv_lshl C.1 C.2.1 hd rfl (K.2 X kx H locs ls a b c d e)⟩
theorem tr_i2l {T : Type} {G : gv_t} {Z : zx_t} {Gd : T → Prop} {cc : ByteArray} {own : String} {nL : Nat} {ret : Option FieldType} {pc : Nat} {L : lo_t} {st : List Value} {h : ph_t} {o : Option T} {x : Int32} (C : Cz G Z cc own nL ret) (pc' : Nat) (hp : pc + 1 = pc') (hd : decode cc pc = .ok (.i2l, 1))
    (k : Tr G Z Gd pc' L (.long x.toInt64 :: st) h o) : Tr G Z Gd pc L (.int x :: st) h o := by
  subst hp
  intro r hr hg
  have K := k r hr hg
  exact ⟨K.1, fun X kx H locs ls a b c d e => have C := C X kx; lv_i2l C.1 C.2.1 hd rfl (K.2 X kx H locs ls a b c d e)⟩
theorem tr_l2i {T : Type} {G : gv_t} {Z : zx_t} {Gd : T → Prop} {cc : ByteArray} {own : String} {nL : Nat} {ret : Option FieldType} {pc : Nat} {L : lo_t} {st : List Value} {h : ph_t} {o : Option T} {x : Int64} (C : Cz G Z cc own nL ret) (pc' : Nat) (hp : pc + 1 = pc') (hd : decode cc pc = .ok (.l2i, 1))
    (k : Tr G Z Gd pc' L (.int x.toInt32 :: st) h o) : Tr G Z Gd pc L (.long x :: st) h o := by
  subst hp
  intro r hr hg
  have K := k r hr hg
  exact ⟨K.1, fun X kx H locs ls a b c d e => have C := C X kx; lv_l2i C.1 C.2.1 hd rfl (K.2 X kx H locs ls a b c d e)⟩
theorem tr_i2b {T : Type} {G : gv_t} {Z : zx_t} {Gd : T → Prop} {cc : ByteArray} {own : String} {nL : Nat} {ret : Option FieldType} {pc : Nat} {L : lo_t} {st : List Value} {h : ph_t} {o : Option T} {x : Int32} (C : Cz G Z cc own nL ret) (pc' : Nat) (hp : pc + 1 = pc') (hd : decode cc pc = .ok (.i2b, 1))
    (k : Tr G Z Gd pc' L (.int (ib_ x) :: st) h o) : Tr G Z Gd pc L (.int x :: st) h o := by
  subst hp
  intro r hr hg
  have K := k r hr hg
  exact ⟨K.1, fun X kx H locs ls a b c d e => have C := C X kx; lv_i2b C.1 C.2.1 hd rfl (K.2 X kx H locs ls a b c d e)⟩
theorem tr_i2c {T : Type} {G : gv_t} {Z : zx_t} {Gd : T → Prop} {cc : ByteArray} {own : String} {nL : Nat} {ret : Option FieldType} {pc : Nat} {L : lo_t} {st : List Value} {h : ph_t} {o : Option T} {x : Int32} (C : Cz G Z cc own nL ret) (pc' : Nat) (hp : pc + 1 = pc') (hd : decode cc pc = .ok (.i2c, 1))
    (k : Tr G Z Gd pc' L (.int (ic_ x) :: st) h o) : Tr G Z Gd pc L (.int x :: st) h o := by
  subst hp
  intro r hr hg
  have K := k r hr hg
  exact ⟨K.1, fun X kx H locs ls a b c d e => have C := C X kx; lv_i2c C.1 C.2.1 hd rfl (K.2 X kx H locs ls a b c d e)⟩
theorem tr_ineg {T : Type} {G : gv_t} {Z : zx_t} {Gd : T → Prop} {cc : ByteArray} {own : String} {nL : Nat} {ret : Option FieldType} {pc : Nat} {L : lo_t} {st : List Value} {h : ph_t} {o : Option T} {x : Int32} (C : Cz G Z cc own nL ret) (pc' : Nat) (hp : pc + 1 = pc') (hd : decode cc pc = .ok (.ineg, 1))
    (k : Tr G Z Gd pc' L (.int (-x) :: st) h o) : Tr G Z Gd pc L (.int x :: st) h o := by
  subst hp
  intro r hr hg
  have K := k r hr hg
  exact ⟨K.1, fun X kx H locs ls a b c d e => have C := C X kx; lv_ineg C.1 C.2.1 hd (K.2 X kx H locs ls a b c d e)⟩
theorem tr_dup {T : Type} {G : gv_t} {Z : zx_t} {Gd : T → Prop} {cc : ByteArray} {own : String} {nL : Nat} {ret : Option FieldType} {pc : Nat} {L : lo_t} {st : List Value} {h : ph_t} {o : Option T} {va : Value} (C : Cz G Z cc own nL ret) (pc' : Nat) (hp : pc + 1 = pc') (hd : decode cc pc = .ok (.dup, 1)) (hva : va.category = 1)
    (k : Tr G Z Gd pc' L (va :: va :: st) h o) : Tr G Z Gd pc L (va :: st) h o := by
  subst hp
  intro r hr hg
  have K := k r hr hg
  exact ⟨K.1, fun X kx H locs ls a b c d e => have C := C X kx; lv_dup C.1 C.2.1 hd hva (K.2 X kx H locs ls a b c d e)⟩
theorem tr_pop {T : Type} {G : gv_t} {Z : zx_t} {Gd : T → Prop} {cc : ByteArray} {own : String} {nL : Nat} {ret : Option FieldType} {pc : Nat} {L : lo_t} {st : List Value} {h : ph_t} {o : Option T} {va : Value} (C : Cz G Z cc own nL ret) (pc' : Nat) (hp : pc + 1 = pc') (hd : decode cc pc = .ok (.pop, 1)) (hva : va.category = 1)
    (k : Tr G Z Gd pc' L (st) h o) : Tr G Z Gd pc L (va :: st) h o := by
  subst hp
  intro r hr hg
  have K := k r hr hg
  exact ⟨K.1, fun X kx H locs ls a b c d e => have C := C X kx; lv_pop C.1 C.2.1 hd hva (K.2 X kx H locs ls a b c d e)⟩
theorem tr_dup2 {T : Type} {G : gv_t} {Z : zx_t} {Gd : T → Prop} {cc : ByteArray} {own : String} {nL : Nat} {ret : Option FieldType} {pc : Nat} {L : lo_t} {st : List Value} {h : ph_t} {o : Option T} {va vb : Value} (C : Cz G Z cc own nL ret) (pc' : Nat) (hp : pc + 1 = pc') (hd : decode cc pc = .ok (.dup2, 1)) (hva : va.category = 1) (hvb : vb.category = 1)
    (k : Tr G Z Gd pc' L (va :: vb :: va :: vb :: st) h o) : Tr G Z Gd pc L (va :: vb :: st) h o := by
  subst hp
  intro r hr hg
  have K := k r hr hg
  exact ⟨K.1, fun X kx H locs ls a b c d e => have C := C X kx; lv_dup2_11 C.1 C.2.1 hd hva hvb (K.2 X kx H locs ls a b c d e)⟩
theorem tr_dup_x1 {T : Type} {G : gv_t} {Z : zx_t} {Gd : T → Prop} {cc : ByteArray} {own : String} {nL : Nat} {ret : Option FieldType} {pc : Nat} {L : lo_t} {st : List Value} {h : ph_t} {o : Option T} {va vb : Value} (C : Cz G Z cc own nL ret) (pc' : Nat) (hp : pc + 1 = pc') (hd : decode cc pc = .ok (.dup_x1, 1)) (hva : va.category = 1) (hvb : vb.category = 1)
    (k : Tr G Z Gd pc' L (va :: vb :: va :: st) h o) : Tr G Z Gd pc L (va :: vb :: st) h o := by
  subst hp
  intro r hr hg
  have K := k r hr hg
  exact ⟨K.1, fun X kx H locs ls a b c d e => have C := C X kx; lv_dup_x1 C.1 C.2.1 hd hva hvb (K.2 X kx H locs ls a b c d e)⟩
theorem tr_iload_n {T : Type} {G : gv_t} {Z : zx_t} {Gd : T → Prop} {cc : ByteArray} {own : String} {nL : Nat} {ret : Option FieldType} {pc : Nat} {L : lo_t} {st : List Value} {h : ph_t} {o : Option T} {k : Fin 4} {x : Int32} (C : Cz G Z cc own nL ret) (pc' : Nat) (hp : pc + 1 = pc') (hd : decode cc pc = .ok (.iload_n k, 1)) (i : Nat) (hi : (k : Nat) = i) (j : Nat) (hj : L[j]? = some (i, .inl x))
    (k : Tr G Z Gd pc' L (.int x :: st) h o) : Tr G Z Gd pc L (st) h o := by
  subst hp
  intro r hr hg
  have K := k r hr hg
  exact ⟨K.1, fun X kx H locs ls a b c d e => have C := C X kx; lv_iload_n C.1 C.2.1 hd hi (lv_at e j (pl_at hj)) (K.2 X kx H locs ls a b c d e)⟩
theorem tr_iload {T : Type} {G : gv_t} {Z : zx_t} {Gd : T → Prop} {cc : ByteArray} {own : String} {nL : Nat} {ret : Option FieldType} {pc : Nat} {L : lo_t} {st : List Value} {h : ph_t} {o : Option T} {i : Nat} {x : Int32} (C : Cz G Z cc own nL ret) (pc' : Nat) (hp : pc + 2 = pc') (hd : decode cc pc = .ok (.iload i, 2)) (j : Nat) (hj : L[j]? = some (i, .inl x))
    (k : Tr G Z Gd pc' L (.int x :: st) h o) : Tr G Z Gd pc L (st) h o := by
  subst hp
  intro r hr hg
  have K := k r hr hg
  exact ⟨K.1, fun X kx H locs ls a b c d e => have C := C X kx; lv_iload C.1 C.2.1 hd (lv_at e j (pl_at hj)) (K.2 X kx H locs ls a b c d e)⟩
theorem tr_lload_n {T : Type} {G : gv_t} {Z : zx_t} {Gd : T → Prop} {cc : ByteArray} {own : String} {nL : Nat} {ret : Option FieldType} {pc : Nat} {L : lo_t} {st : List Value} {h : ph_t} {o : Option T} {k : Fin 4} {x : Int64} (C : Cz G Z cc own nL ret) (pc' : Nat) (hp : pc + 1 = pc') (hd : decode cc pc = .ok (.lload_n k, 1)) (i : Nat) (hi : (k : Nat) = i) (j : Nat) (hj : L[j]? = some (i, .inr <| .inl x))
    (k : Tr G Z Gd pc' L (.long x :: st) h o) : Tr G Z Gd pc L (st) h o := by
  subst hp
  intro r hr hg
  have K := k r hr hg
  exact ⟨K.1, fun X kx H locs ls a b c d e => have C := C X kx; lv_lload_n C.1 C.2.1 hd hi (lv_at e j (pl_at hj)) (K.2 X kx H locs ls a b c d e)⟩
theorem tr_lload {T : Type} {G : gv_t} {Z : zx_t} {Gd : T → Prop} {cc : ByteArray} {own : String} {nL : Nat} {ret : Option FieldType} {pc : Nat} {L : lo_t} {st : List Value} {h : ph_t} {o : Option T} {i : Nat} {x : Int64} (C : Cz G Z cc own nL ret) (pc' : Nat) (hp : pc + 2 = pc') (hd : decode cc pc = .ok (.lload i, 2)) (j : Nat) (hj : L[j]? = some (i, .inr <| .inl x))
    (k : Tr G Z Gd pc' L (.long x :: st) h o) : Tr G Z Gd pc L (st) h o := by
  subst hp
  intro r hr hg
  have K := k r hr hg
  exact ⟨K.1, fun X kx H locs ls a b c d e => have C := C X kx; lv_lload C.1 C.2.1 hd (lv_at e j (pl_at hj)) (K.2 X kx H locs ls a b c d e)⟩
theorem tr_aload_n {T : Type} {G : gv_t} {Z : zx_t} {Gd : T → Prop} {cc : ByteArray} {own : String} {nL : Nat} {ret : Option FieldType} {pc : Nat} {L : lo_t} {st : List Value} {h : ph_t} {o : Option T} {k : Fin 4} {x : Option Nat} (C : Cz G Z cc own nL ret) (pc' : Nat) (hp : pc + 1 = pc') (hd : decode cc pc = .ok (.aload_n k, 1)) (i : Nat) (hi : (k : Nat) = i) (j : Nat) (hj : L[j]? = some (i, .inr <| .inr x))
    (k : Tr G Z Gd pc' L (rf_ G x :: st) h o) : Tr G Z Gd pc L st h o := by
  subst hp
  intro r hr hg
  have K := k r hr hg
  refine ⟨K.1, fun X kx H locs ls a b c d e => ?_⟩
  have C := C X kx
  have K2 := K.2 X kx H locs ls a b c d e
  have hl : ls[i]? = some (.val (rf_ G x)) := lv_at e j (pl_at hj)
  clear k K
  unfold rf_ at K2 hl
  cases hx : rm_ G x with
  | none => rw [hx] at K2 hl; exact lv_aload_nN C.1 C.2.1 hd hi hl K2
  | some q => rw [hx] at K2 hl; exact lv_aload_n C.1 C.2.1 hd hi hl K2
theorem tr_aload {T : Type} {G : gv_t} {Z : zx_t} {Gd : T → Prop} {cc : ByteArray} {own : String} {nL : Nat} {ret : Option FieldType} {pc : Nat} {L : lo_t} {st : List Value} {h : ph_t} {o : Option T} {i : Nat} {x : Option Nat} (C : Cz G Z cc own nL ret) (pc' : Nat) (hp : pc + 2 = pc') (hd : decode cc pc = .ok (.aload i, 2)) (j : Nat) (hj : L[j]? = some (i, .inr <| .inr x))
    (k : Tr G Z Gd pc' L (rf_ G x :: st) h o) : Tr G Z Gd pc L st h o := by
  subst hp
  intro r hr hg
  have K := k r hr hg
  refine ⟨K.1, fun X kx H locs ls a b c d e => ?_⟩
  have C := C X kx
  have K2 := K.2 X kx H locs ls a b c d e
  have hl : ls[i]? = some (.val (rf_ G x)) := lv_at e j (pl_at hj)
  clear k K
  unfold rf_ at K2 hl
  cases hx : rm_ G x with
  | none => rw [hx] at K2 hl; exact lv_aloadN C.1 C.2.1 hd hl K2
  | some q => rw [hx] at K2 hl; exact lv_aload C.1 C.2.1 hd hl K2
theorem tr_istore_n {T : Type} {G : gv_t} {Z : zx_t} {Gd : T → Prop} {cc : ByteArray} {own : String} {nL : Nat} {ret : Option FieldType} {pc : Nat} {L : lo_t} {st : List Value} {h : ph_t} {o : Option T} {k : Fin 4} {x : Int32} {L' : lo_t} (C : Cz G Z cc own nL ret) (pc' : Nat) (hp : pc + 1 = pc') (hd : decode cc pc = .ok (.istore_n k, 1)) (i : Nat) (hi : (k : Nat) = i) (hn : i < nL) (hl : (i, (.inl x : pa_t)) :: L.filter (fun q => !(q.1 == i) && !(q.1 + 1 == i && pj_ q.2)) = L')
    (k : Tr G Z Gd pc' L' st h o) : Tr G Z Gd pc L (.int x :: st) h o := by
  subst hp
  intro r hr hg
  have K := k r hr hg
  exact ⟨K.1, fun X kx H locs ls a b c d e => have C := C X kx; lv_istore_n C.1 C.2.1 hd hi e (by rw [C.2.2.1]; exact hn) (pl_st1 hl) (fun ls' e' => K.2 X kx H locs ls' a b c d e')⟩
theorem tr_istore {T : Type} {G : gv_t} {Z : zx_t} {Gd : T → Prop} {cc : ByteArray} {own : String} {nL : Nat} {ret : Option FieldType} {pc : Nat} {L : lo_t} {st : List Value} {h : ph_t} {o : Option T} {i : Nat} {x : Int32} {L' : lo_t} (C : Cz G Z cc own nL ret) (pc' : Nat) (hp : pc + 2 = pc') (hd : decode cc pc = .ok (.istore i, 2)) (hn : i < nL) (hl : (i, (.inl x : pa_t)) :: L.filter (fun q => !(q.1 == i) && !(q.1 + 1 == i && pj_ q.2)) = L')
    (k : Tr G Z Gd pc' L' st h o) : Tr G Z Gd pc L (.int x :: st) h o := by
  subst hp
  intro r hr hg
  have K := k r hr hg
  exact ⟨K.1, fun X kx H locs ls a b c d e => have C := C X kx; lv_istore C.1 C.2.1 hd e (by rw [C.2.2.1]; exact hn) (pl_st1 hl) (fun ls' e' => K.2 X kx H locs ls' a b c d e')⟩
theorem tr_lstore_n {T : Type} {G : gv_t} {Z : zx_t} {Gd : T → Prop} {cc : ByteArray} {own : String} {nL : Nat} {ret : Option FieldType} {pc : Nat} {L : lo_t} {st : List Value} {h : ph_t} {o : Option T} {k : Fin 4} {x : Int64} {L' : lo_t} (C : Cz G Z cc own nL ret) (pc' : Nat) (hp : pc + 1 = pc') (hd : decode cc pc = .ok (.lstore_n k, 1)) (i : Nat) (hi : (k : Nat) = i) (hn : i + 1 < nL) (hl : (i, (.inr <| .inl x : pa_t)) :: L.filter (fun q => !(q.1 == i) && (!(q.1 == i + 1) && !(q.1 + 1 == i && pj_ q.2))) = L')
    (k : Tr G Z Gd pc' L' st h o) : Tr G Z Gd pc L (.long x :: st) h o := by
  subst hp
  intro r hr hg
  have K := k r hr hg
  exact ⟨K.1, fun X kx H locs ls a b c d e => have C := C X kx; lv_lstore_n C.1 C.2.1 hd hi e (by rw [C.2.2.1]; exact hn) (pl_st2 hl) (fun ls' e' => K.2 X kx H locs ls' a b c d e')⟩
theorem tr_lstore {T : Type} {G : gv_t} {Z : zx_t} {Gd : T → Prop} {cc : ByteArray} {own : String} {nL : Nat} {ret : Option FieldType} {pc : Nat} {L : lo_t} {st : List Value} {h : ph_t} {o : Option T} {i : Nat} {x : Int64} {L' : lo_t} (C : Cz G Z cc own nL ret) (pc' : Nat) (hp : pc + 2 = pc') (hd : decode cc pc = .ok (.lstore i, 2)) (hn : i + 1 < nL) (hl : (i, (.inr <| .inl x : pa_t)) :: L.filter (fun q => !(q.1 == i) && (!(q.1 == i + 1) && !(q.1 + 1 == i && pj_ q.2))) = L')
    (k : Tr G Z Gd pc' L' st h o) : Tr G Z Gd pc L (.long x :: st) h o := by
  subst hp
  intro r hr hg
  have K := k r hr hg
  exact ⟨K.1, fun X kx H locs ls a b c d e => have C := C X kx; lv_lstore C.1 C.2.1 hd e (by rw [C.2.2.1]; exact hn) (pl_st2 hl) (fun ls' e' => K.2 X kx H locs ls' a b c d e')⟩
theorem tr_astore_n {T : Type} {G : gv_t} {Z : zx_t} {Gd : T → Prop} {cc : ByteArray} {own : String} {nL : Nat} {ret : Option FieldType} {pc : Nat} {L : lo_t} {st : List Value} {h : ph_t} {o : Option T} {k : Fin 4} {x : Option Nat} {L' : lo_t} (C : Cz G Z cc own nL ret) (pc' : Nat) (hp : pc + 1 = pc') (hd : decode cc pc = .ok (.astore_n k, 1)) (i : Nat) (hi : (k : Nat) = i) (hn : i < nL) (hl : (i, (.inr <| .inr x : pa_t)) :: L.filter (fun q => !(q.1 == i) && !(q.1 + 1 == i && pj_ q.2)) = L')
    (k : Tr G Z Gd pc' L' st h o) : Tr G Z Gd pc L (rf_ G x :: st) h o := by
  subst hp
  intro r hr hg
  have K := k r hr hg
  refine ⟨K.1, fun X kx H locs ls a b c d e => ?_⟩
  have C := C X kx
  have K2 := fun ls' e' => K.2 X kx H locs ls' a b c d e'
  clear k K
  have hl : (i, rf_ G x) :: _ = pl_ G L' := pl_st1 (G := G) hl
  unfold rf_ at hl ⊢
  cases hx : rm_ G x with
  | none => rw [hx] at hl; exact lv_astore_nN C.1 C.2.1 hd hi e (by rw [C.2.2.1]; exact hn) hl K2
  | some q => rw [hx] at hl; exact lv_astore_n C.1 C.2.1 hd hi e (by rw [C.2.2.1]; exact hn) hl K2
theorem tr_astore {T : Type} {G : gv_t} {Z : zx_t} {Gd : T → Prop} {cc : ByteArray} {own : String} {nL : Nat} {ret : Option FieldType} {pc : Nat} {L : lo_t} {st : List Value} {h : ph_t} {o : Option T} {i : Nat} {x : Option Nat} {L' : lo_t} (C : Cz G Z cc own nL ret) (pc' : Nat) (hp : pc + 2 = pc') (hd : decode cc pc = .ok (.astore i, 2)) (hn : i < nL) (hl : (i, (.inr <| .inr x : pa_t)) :: L.filter (fun q => !(q.1 == i) && !(q.1 + 1 == i && pj_ q.2)) = L')
    (k : Tr G Z Gd pc' L' st h o) : Tr G Z Gd pc L (rf_ G x :: st) h o := by
  subst hp
  intro r hr hg
  have K := k r hr hg
  refine ⟨K.1, fun X kx H locs ls a b c d e => ?_⟩
  have C := C X kx
  have K2 := fun ls' e' => K.2 X kx H locs ls' a b c d e'
  clear k K
  have hl : (i, rf_ G x) :: _ = pl_ G L' := pl_st1 (G := G) hl
  unfold rf_ at hl ⊢
  cases hx : rm_ G x with
  | none => rw [hx] at hl; exact lv_astoreN C.1 C.2.1 hd e (by rw [C.2.2.1]; exact hn) hl K2
  | some q => rw [hx] at hl; exact lv_astore C.1 C.2.1 hd e (by rw [C.2.2.1]; exact hn) hl K2
theorem tr_iinc {T : Type} {G : gv_t} {Z : zx_t} {Gd : T → Prop} {cc : ByteArray} {own : String} {nL : Nat} {ret : Option FieldType} {pc : Nat} {L : lo_t} {st : List Value} {h : ph_t} {o : Option T} {i : Nat} {n : Int} {x v : Int32} {L' : lo_t} (C : Cz G Z cc own nL ret) (pc' : Nat) (hp : pc + 3 = pc') (hd : decode cc pc = .ok (.iinc i n, 3)) (j : Nat) (hj : L[j]? = some (i, .inl x)) (hv : x + Int32.ofInt n = v) (hn : i < nL) (hl : (i, (.inl v : pa_t)) :: L.filter (fun q => !(q.1 == i) && !(q.1 + 1 == i && pj_ q.2)) = L')
    (k : Tr G Z Gd pc' L' st h o) : Tr G Z Gd pc L st h o := by
  subst hp
  intro r hr hg
  have K := k r hr hg
  exact ⟨K.1, fun X kx H locs ls a b c d e => have C := C X kx; lv_iinc C.1 C.2.1 hd e (pl_at hj) hv (by rw [C.2.2.1]; exact hn) (pl_st1 hl) (fun ls' e' => K.2 X kx H locs ls' a b c d e')⟩
theorem tr_goto {T : Type} {G : gv_t} {Z : zx_t} {Gd : T → Prop} {cc : ByteArray} {own : String} {nL : Nat} {ret : Option FieldType} {pc : Nat} {L : lo_t} {st : List Value} {h : ph_t} {o : Option T} {off : Int} (C : Cz G Z cc own nL ret) (pc' : Nat) (hd : decode cc pc = .ok (.goto off, 3)) (ht : (pc : Int) + off = (pc' : Int))
    (k : Tr G Z Gd pc' L st h o) : Tr G Z Gd pc L st h o := by
  intro r hr hg
  have K := k r hr hg
  exact ⟨K.1, fun X kx H locs ls a b c d e => have C := C X kx; lv_goto C.1 C.2.1 hd ht (K.2 X kx H locs ls a b c d e)⟩
theorem tr_if_eq {T : Type} {G : gv_t} {Z : zx_t} {Gd : T → Prop} {cc : ByteArray} {own : String} {nL : Nat} {ret : Option FieldType} {pc : Nat} {L : lo_t} {st : List Value} {h : ph_t} {o1 o2 : Option T} {x : Int32} {off : Int} (C : Cz G Z cc own nL ret) (t f : Nat) (hf : pc + 3 = f) (hd : decode cc pc = .ok (.ifCond .eq off, 3)) (ht : (pc : Int) + off = (t : Int))
    (k1 : Tr G Z Gd t L st h o1) (k2 : Tr G Z Gd f L st h o2) : Tr G Z Gd pc L (.int x :: st) h (if x = 0 then o1 else o2) := by
  subst hf
  intro r hr hg
  by_cases q : x = 0
  · rw [if_pos q] at hr
    have K := k1 r hr hg
    exact ⟨K.1, fun X kx H locs ls a b c d e => have C := C X kx; lv_if_eq C.1 C.2.1 hd ht (fun _ => K.2 X kx H locs ls a b c d e) (fun z => absurd q z)⟩
  · rw [if_neg q] at hr
    have K := k2 r hr hg
    exact ⟨K.1, fun X kx H locs ls a b c d e => have C := C X kx; lv_if_eq C.1 C.2.1 hd ht (fun z => absurd z q) (fun _ => K.2 X kx H locs ls a b c d e)⟩
theorem tr_if_ne {T : Type} {G : gv_t} {Z : zx_t} {Gd : T → Prop} {cc : ByteArray} {own : String} {nL : Nat} {ret : Option FieldType} {pc : Nat} {L : lo_t} {st : List Value} {h : ph_t} {o1 o2 : Option T} {x : Int32} {off : Int} (C : Cz G Z cc own nL ret) (t f : Nat) (hf : pc + 3 = f) (hd : decode cc pc = .ok (.ifCond .ne off, 3)) (ht : (pc : Int) + off = (t : Int))
    (k1 : Tr G Z Gd t L st h o1) (k2 : Tr G Z Gd f L st h o2) : Tr G Z Gd pc L (.int x :: st) h (if ¬ x = 0 then o1 else o2) := by
  subst hf
  intro r hr hg
  by_cases q : ¬ x = 0
  · rw [if_pos q] at hr
    have K := k1 r hr hg
    exact ⟨K.1, fun X kx H locs ls a b c d e => have C := C X kx; lv_if_ne C.1 C.2.1 hd ht (fun _ => K.2 X kx H locs ls a b c d e) (fun z => absurd z q)⟩
  · rw [if_neg q] at hr
    have K := k2 r hr hg
    exact ⟨K.1, fun X kx H locs ls a b c d e => have C := C X kx; lv_if_ne C.1 C.2.1 hd ht (fun z => absurd z q) (fun _ => K.2 X kx H locs ls a b c d e)⟩
theorem tr_if_lt {T : Type} {G : gv_t} {Z : zx_t} {Gd : T → Prop} {cc : ByteArray} {own : String} {nL : Nat} {ret : Option FieldType} {pc : Nat} {L : lo_t} {st : List Value} {h : ph_t} {o1 o2 : Option T} {x : Int32} {off : Int} (C : Cz G Z cc own nL ret) (t f : Nat) (hf : pc + 3 = f) (hd : decode cc pc = .ok (.ifCond .lt off, 3)) (ht : (pc : Int) + off = (t : Int))
    (k1 : Tr G Z Gd t L st h o1) (k2 : Tr G Z Gd f L st h o2) : Tr G Z Gd pc L (.int x :: st) h (if x < 0 then o1 else o2) := by
  subst hf
  intro r hr hg
  by_cases q : x < 0
  · rw [if_pos q] at hr
    have K := k1 r hr hg
    exact ⟨K.1, fun X kx H locs ls a b c d e => have C := C X kx; lv_if_lt C.1 C.2.1 hd ht (fun _ => K.2 X kx H locs ls a b c d e) (fun z => absurd q z)⟩
  · rw [if_neg q] at hr
    have K := k2 r hr hg
    exact ⟨K.1, fun X kx H locs ls a b c d e => have C := C X kx; lv_if_lt C.1 C.2.1 hd ht (fun z => absurd z q) (fun _ => K.2 X kx H locs ls a b c d e)⟩
theorem tr_if_ge {T : Type} {G : gv_t} {Z : zx_t} {Gd : T → Prop} {cc : ByteArray} {own : String} {nL : Nat} {ret : Option FieldType} {pc : Nat} {L : lo_t} {st : List Value} {h : ph_t} {o1 o2 : Option T} {x : Int32} {off : Int} (C : Cz G Z cc own nL ret) (t f : Nat) (hf : pc + 3 = f) (hd : decode cc pc = .ok (.ifCond .ge off, 3)) (ht : (pc : Int) + off = (t : Int))
    (k1 : Tr G Z Gd t L st h o1) (k2 : Tr G Z Gd f L st h o2) : Tr G Z Gd pc L (.int x :: st) h (if 0 ≤ x then o1 else o2) := by
  subst hf
  intro r hr hg
  by_cases q : 0 ≤ x
  · rw [if_pos q] at hr
    have K := k1 r hr hg
    exact ⟨K.1, fun X kx H locs ls a b c d e => have C := C X kx; lv_if_ge C.1 C.2.1 hd ht (fun _ => K.2 X kx H locs ls a b c d e) (fun z => absurd q z)⟩
  · rw [if_neg q] at hr
    have K := k2 r hr hg
    exact ⟨K.1, fun X kx H locs ls a b c d e => have C := C X kx; lv_if_ge C.1 C.2.1 hd ht (fun z => absurd z q) (fun _ => K.2 X kx H locs ls a b c d e)⟩
theorem tr_if_gt {T : Type} {G : gv_t} {Z : zx_t} {Gd : T → Prop} {cc : ByteArray} {own : String} {nL : Nat} {ret : Option FieldType} {pc : Nat} {L : lo_t} {st : List Value} {h : ph_t} {o1 o2 : Option T} {x : Int32} {off : Int} (C : Cz G Z cc own nL ret) (t f : Nat) (hf : pc + 3 = f) (hd : decode cc pc = .ok (.ifCond .gt off, 3)) (ht : (pc : Int) + off = (t : Int))
    (k1 : Tr G Z Gd t L st h o1) (k2 : Tr G Z Gd f L st h o2) : Tr G Z Gd pc L (.int x :: st) h (if 0 < x then o1 else o2) := by
  subst hf
  intro r hr hg
  by_cases q : 0 < x
  · rw [if_pos q] at hr
    have K := k1 r hr hg
    exact ⟨K.1, fun X kx H locs ls a b c d e => have C := C X kx; lv_if_gt C.1 C.2.1 hd ht (fun _ => K.2 X kx H locs ls a b c d e) (fun z => absurd q z)⟩
  · rw [if_neg q] at hr
    have K := k2 r hr hg
    exact ⟨K.1, fun X kx H locs ls a b c d e => have C := C X kx; lv_if_gt C.1 C.2.1 hd ht (fun z => absurd z q) (fun _ => K.2 X kx H locs ls a b c d e)⟩
theorem tr_if_le {T : Type} {G : gv_t} {Z : zx_t} {Gd : T → Prop} {cc : ByteArray} {own : String} {nL : Nat} {ret : Option FieldType} {pc : Nat} {L : lo_t} {st : List Value} {h : ph_t} {o1 o2 : Option T} {x : Int32} {off : Int} (C : Cz G Z cc own nL ret) (t f : Nat) (hf : pc + 3 = f) (hd : decode cc pc = .ok (.ifCond .le off, 3)) (ht : (pc : Int) + off = (t : Int))
    (k1 : Tr G Z Gd t L st h o1) (k2 : Tr G Z Gd f L st h o2) : Tr G Z Gd pc L (.int x :: st) h (if x ≤ 0 then o1 else o2) := by
  subst hf
  intro r hr hg
  by_cases q : x ≤ 0
  · rw [if_pos q] at hr
    have K := k1 r hr hg
    exact ⟨K.1, fun X kx H locs ls a b c d e => have C := C X kx; lv_if_le C.1 C.2.1 hd ht (fun _ => K.2 X kx H locs ls a b c d e) (fun z => absurd q z)⟩
  · rw [if_neg q] at hr
    have K := k2 r hr hg
    exact ⟨K.1, fun X kx H locs ls a b c d e => have C := C X kx; lv_if_le C.1 C.2.1 hd ht (fun z => absurd z q) (fun _ => K.2 X kx H locs ls a b c d e)⟩
theorem tr_icmp_eq {T : Type} {G : gv_t} {Z : zx_t} {Gd : T → Prop} {cc : ByteArray} {own : String} {nL : Nat} {ret : Option FieldType} {pc : Nat} {L : lo_t} {st : List Value} {h : ph_t} {o1 o2 : Option T} {x y : Int32} {off : Int} (C : Cz G Z cc own nL ret) (t f : Nat) (hf : pc + 3 = f) (hd : decode cc pc = .ok (.if_icmp .eq off, 3)) (ht : (pc : Int) + off = (t : Int))
    (k1 : Tr G Z Gd t L st h o1) (k2 : Tr G Z Gd f L st h o2) : Tr G Z Gd pc L (.int y :: .int x :: st) h (if x = y then o1 else o2) := by
  subst hf
  intro r hr hg
  by_cases q : x = y
  · rw [if_pos q] at hr
    have K := k1 r hr hg
    exact ⟨K.1, fun X kx H locs ls a b c d e => have C := C X kx; lv_icmp_eq C.1 C.2.1 hd ht (fun _ => K.2 X kx H locs ls a b c d e) (fun z => absurd q z)⟩
  · rw [if_neg q] at hr
    have K := k2 r hr hg
    exact ⟨K.1, fun X kx H locs ls a b c d e => have C := C X kx; lv_icmp_eq C.1 C.2.1 hd ht (fun z => absurd z q) (fun _ => K.2 X kx H locs ls a b c d e)⟩
theorem tr_icmp_ne {T : Type} {G : gv_t} {Z : zx_t} {Gd : T → Prop} {cc : ByteArray} {own : String} {nL : Nat} {ret : Option FieldType} {pc : Nat} {L : lo_t} {st : List Value} {h : ph_t} {o1 o2 : Option T} {x y : Int32} {off : Int} (C : Cz G Z cc own nL ret) (t f : Nat) (hf : pc + 3 = f) (hd : decode cc pc = .ok (.if_icmp .ne off, 3)) (ht : (pc : Int) + off = (t : Int))
    (k1 : Tr G Z Gd t L st h o1) (k2 : Tr G Z Gd f L st h o2) : Tr G Z Gd pc L (.int y :: .int x :: st) h (if ¬ x = y then o1 else o2) := by
  subst hf
  intro r hr hg
  by_cases q : ¬ x = y
  · rw [if_pos q] at hr
    have K := k1 r hr hg
    exact ⟨K.1, fun X kx H locs ls a b c d e => have C := C X kx; lv_icmp_ne C.1 C.2.1 hd ht (fun _ => K.2 X kx H locs ls a b c d e) (fun z => absurd z q)⟩
  · rw [if_neg q] at hr
    have K := k2 r hr hg
    exact ⟨K.1, fun X kx H locs ls a b c d e => have C := C X kx; lv_icmp_ne C.1 C.2.1 hd ht (fun z => absurd z q) (fun _ => K.2 X kx H locs ls a b c d e)⟩
theorem tr_icmp_lt {T : Type} {G : gv_t} {Z : zx_t} {Gd : T → Prop} {cc : ByteArray} {own : String} {nL : Nat} {ret : Option FieldType} {pc : Nat} {L : lo_t} {st : List Value} {h : ph_t} {o1 o2 : Option T} {x y : Int32} {off : Int} (C : Cz G Z cc own nL ret) (t f : Nat) (hf : pc + 3 = f) (hd : decode cc pc = .ok (.if_icmp .lt off, 3)) (ht : (pc : Int) + off = (t : Int))
    (k1 : Tr G Z Gd t L st h o1) (k2 : Tr G Z Gd f L st h o2) : Tr G Z Gd pc L (.int y :: .int x :: st) h (if x < y then o1 else o2) := by
  subst hf
  intro r hr hg
  by_cases q : x < y
  · rw [if_pos q] at hr
    have K := k1 r hr hg
    exact ⟨K.1, fun X kx H locs ls a b c d e => have C := C X kx; lv_icmp_lt C.1 C.2.1 hd ht (fun _ => K.2 X kx H locs ls a b c d e) (fun z => absurd q z)⟩
  · rw [if_neg q] at hr
    have K := k2 r hr hg
    exact ⟨K.1, fun X kx H locs ls a b c d e => have C := C X kx; lv_icmp_lt C.1 C.2.1 hd ht (fun z => absurd z q) (fun _ => K.2 X kx H locs ls a b c d e)⟩
theorem tr_icmp_ge {T : Type} {G : gv_t} {Z : zx_t} {Gd : T → Prop} {cc : ByteArray} {own : String} {nL : Nat} {ret : Option FieldType} {pc : Nat} {L : lo_t} {st : List Value} {h : ph_t} {o1 o2 : Option T} {x y : Int32} {off : Int} (C : Cz G Z cc own nL ret) (t f : Nat) (hf : pc + 3 = f) (hd : decode cc pc = .ok (.if_icmp .ge off, 3)) (ht : (pc : Int) + off = (t : Int))
    (k1 : Tr G Z Gd t L st h o1) (k2 : Tr G Z Gd f L st h o2) : Tr G Z Gd pc L (.int y :: .int x :: st) h (if y ≤ x then o1 else o2) := by
  subst hf
  intro r hr hg
  by_cases q : y ≤ x
  · rw [if_pos q] at hr
    have K := k1 r hr hg
    exact ⟨K.1, fun X kx H locs ls a b c d e => have C := C X kx; lv_icmp_ge C.1 C.2.1 hd ht (fun _ => K.2 X kx H locs ls a b c d e) (fun z => absurd q z)⟩
  · rw [if_neg q] at hr
    have K := k2 r hr hg
    exact ⟨K.1, fun X kx H locs ls a b c d e => have C := C X kx; lv_icmp_ge C.1 C.2.1 hd ht (fun z => absurd z q) (fun _ => K.2 X kx H locs ls a b c d e)⟩
theorem tr_icmp_gt {T : Type} {G : gv_t} {Z : zx_t} {Gd : T → Prop} {cc : ByteArray} {own : String} {nL : Nat} {ret : Option FieldType} {pc : Nat} {L : lo_t} {st : List Value} {h : ph_t} {o1 o2 : Option T} {x y : Int32} {off : Int} (C : Cz G Z cc own nL ret) (t f : Nat) (hf : pc + 3 = f) (hd : decode cc pc = .ok (.if_icmp .gt off, 3)) (ht : (pc : Int) + off = (t : Int))
    (k1 : Tr G Z Gd t L st h o1) (k2 : Tr G Z Gd f L st h o2) : Tr G Z Gd pc L (.int y :: .int x :: st) h (if y < x then o1 else o2) := by
  subst hf
  intro r hr hg
  by_cases q : y < x
  · rw [if_pos q] at hr
    have K := k1 r hr hg
    exact ⟨K.1, fun X kx H locs ls a b c d e => have C := C X kx; lv_icmp_gt C.1 C.2.1 hd ht (fun _ => K.2 X kx H locs ls a b c d e) (fun z => absurd q z)⟩
  · rw [if_neg q] at hr
    have K := k2 r hr hg
    exact ⟨K.1, fun X kx H locs ls a b c d e => have C := C X kx; lv_icmp_gt C.1 C.2.1 hd ht (fun z => absurd z q) (fun _ => K.2 X kx H locs ls a b c d e)⟩
theorem tr_icmp_le {T : Type} {G : gv_t} {Z : zx_t} {Gd : T → Prop} {cc : ByteArray} {own : String} {nL : Nat} {ret : Option FieldType} {pc : Nat} {L : lo_t} {st : List Value} {h : ph_t} {o1 o2 : Option T} {x y : Int32} {off : Int} (C : Cz G Z cc own nL ret) (t f : Nat) (hf : pc + 3 = f) (hd : decode cc pc = .ok (.if_icmp .le off, 3)) (ht : (pc : Int) + off = (t : Int))
    (k1 : Tr G Z Gd t L st h o1) (k2 : Tr G Z Gd f L st h o2) : Tr G Z Gd pc L (.int y :: .int x :: st) h (if x ≤ y then o1 else o2) := by
  subst hf
  intro r hr hg
  by_cases q : x ≤ y
  · rw [if_pos q] at hr
    have K := k1 r hr hg
    exact ⟨K.1, fun X kx H locs ls a b c d e => have C := C X kx; lv_icmp_le C.1 C.2.1 hd ht (fun _ => K.2 X kx H locs ls a b c d e) (fun z => absurd q z)⟩
  · rw [if_neg q] at hr
    have K := k2 r hr hg
    exact ⟨K.1, fun X kx H locs ls a b c d e => have C := C X kx; lv_icmp_le C.1 C.2.1 hd ht (fun z => absurd z q) (fun _ => K.2 X kx H locs ls a b c d e)⟩
theorem rm_in {G : gv_t} {a : Nat} (h : 64 ≤ a) : rm_ G (some a) = some (gv_B G + (a - 64)) := by simp [rm_, Nat.not_lt.mpr h]
theorem tr_ifnull {T : Type} {G : gv_t} {Z : zx_t} {Gd : T → Prop} {cc : ByteArray} {own : String} {nL : Nat} {ret : Option FieldType} {pc : Nat} {L : lo_t} {st : List Value} {h : ph_t} {o1 o2 : Option T} {x : Option Nat} {off : Int} (C : Cz G Z cc own nL ret) (t f : Nat) (hf : pc + 3 = f) (hd : decode cc pc = .ok (.ifnull off, 3)) (ht : (pc : Int) + off = (t : Int))
    (k1 : Tr G Z Gd t L st h o1) (k2 : Tr G Z Gd f L st h o2) : Tr G Z Gd pc L (rf_ G x :: st) h (nq_ x o1 o2) := by
  subst hf
  intro r hr hg
  cases x with
  | none =>
    have K := k1 r hr hg
    exact ⟨K.1, fun X kx H locs ls a b c d e => have C := C X kx; lv_ifnullN C.1 C.2.1 hd ht (K.2 X kx H locs ls a b c d e)⟩
  | some q =>
    by_cases hq : 64 ≤ q
    · have hr' : o2 = some r := by simpa [nq_, hq] using hr
      have K := k2 r hr' hg
      refine ⟨K.1, fun X kx H locs ls a b c d e => ?_⟩
      have C := C X kx
      rw [rf_some hq]
      exact lv_ifnull C.1 C.2.1 hd (K.2 X kx H locs ls a b c d e)
    · exfalso
      simp [nq_, hq] at hr
theorem tr_ifnonnull {T : Type} {G : gv_t} {Z : zx_t} {Gd : T → Prop} {cc : ByteArray} {own : String} {nL : Nat} {ret : Option FieldType} {pc : Nat} {L : lo_t} {st : List Value} {h : ph_t} {o1 o2 : Option T} {x : Option Nat} {off : Int} (C : Cz G Z cc own nL ret) (t f : Nat) (hf : pc + 3 = f) (hd : decode cc pc = .ok (.ifnonnull off, 3)) (ht : (pc : Int) + off = (t : Int))
    (k1 : Tr G Z Gd t L st h o1) (k2 : Tr G Z Gd f L st h o2) : Tr G Z Gd pc L (rf_ G x :: st) h (nq_ x o2 o1) := by
  subst hf
  intro r hr hg
  cases x with
  | none =>
    have K := k2 r hr hg
    exact ⟨K.1, fun X kx H locs ls a b c d e => have C := C X kx; lv_ifnonnullN C.1 C.2.1 hd (K.2 X kx H locs ls a b c d e)⟩
  | some q =>
    by_cases hq : 64 ≤ q
    · have hr' : o1 = some r := by simpa [nq_, hq] using hr
      have K := k1 r hr' hg
      refine ⟨K.1, fun X kx H locs ls a b c d e => ?_⟩
      have C := C X kx
      rw [rf_some hq]
      exact lv_ifnonnull C.1 C.2.1 hd ht (K.2 X kx H locs ls a b c d e)
    · exfalso
      simp [nq_, hq] at hr
def tg_ : List (Int × Nat) → Nat → Int → Nat
  | [], d, _ => d
  | q :: cs, d, i => if i = q.1 then q.2 else tg_ cs d i
theorem tg_out {d : Nat} {i : Int} : ∀ (cs : List (Int × Nat)), (∀ q ∈ cs, i ≠ q.1) → tg_ cs d i = d
  | [], _ => rfl
  | q :: cs, h => by
    unfold tg_
    rw [if_neg (h q List.mem_cons_self)]
    exact tg_out cs (fun q' hq => h q' (List.mem_cons_of_mem _ hq))
def tk_ (pc : Nat) (dflt lo hi : Int) (offs : Array Int) (cs : List (Int × Nat)) (d : Nat) : Bool :=
  decide ((pc : Int) + dflt = d) && decide ((offs.size : Int) = hi - lo + 1) && cs.all (fun q => decide (lo ≤ q.1 ∧ q.1 ≤ hi)) && (List.range offs.size).all (fun i => decide ((pc : Int) + offs.getD i 0 = (tg_ cs d (lo + i) : Nat)))
theorem tk_spec {pc : Nat} {dflt lo hi : Int} {offs : Array Int} {cs : List (Int × Nat)} {d : Nat} (h : tk_ pc dflt lo hi offs cs d = true) (i : Int) :
    (¬ i < lo ∧ ¬ hi < i ∧ ∃ off, offs[(i - lo).toNat]? = some off ∧ (pc : Int) + off = (tg_ cs d i : Nat)) ∨ ((i < lo ∨ hi < i) ∧ (pc : Int) + dflt = (tg_ cs d i : Nat)) := by
  unfold tk_ at h
  simp only [Bool.and_eq_true, decide_eq_true_eq, List.all_eq_true, List.mem_range] at h
  obtain ⟨⟨⟨h1, h2⟩, h3⟩, h4⟩ := h
  by_cases q : i < lo ∨ hi < i
  · refine Or.inr ⟨q, ?_⟩
    rw [tg_out cs (fun z hz e => ?_)]
    · exact h1
    · have := h3 z hz
      omega
  · have hl : (i - lo).toNat < offs.size := by omega
    refine Or.inl ⟨by omega, by omega, offs[(i - lo).toNat], Array.getElem?_eq_getElem hl, ?_⟩
    have h5 := h4 _ hl
    rw [show lo + ((i - lo).toNat : Int) = i by omega] at h5
    rw [← h5]
    simp [Array.getD, hl]
def tl_ (pc : Nat) (dflt : Int) (ps : List (Int × Int)) (cs : List (Int × Nat)) (d : Nat) : Bool :=
  decide ((pc : Int) + dflt = d) && decide (ps.map (fun q => (q.1, (pc : Int) + q.2)) = cs.map (fun q => (q.1, (q.2 : Int))))
theorem tl_spec {pc : Nat} {dflt : Int} {d : Nat} (i : Int) (hd : (pc : Int) + dflt = d) : ∀ (ps : List (Int × Int)) (cs : List (Int × Nat)), ps.map (fun q => (q.1, (pc : Int) + q.2)) = cs.map (fun q => (q.1, (q.2 : Int))) → (pc : Int) + Op.lookupswitch.offset ps dflt i = (tg_ cs d i : Nat)
  | [], [], _ => hd
  | [], _ :: _, h => by cases h
  | _ :: _, [], h => by cases h
  | a :: ps, b :: cs, h => by
    rw [List.map_cons, List.map_cons, List.cons.injEq, Prod.mk.injEq] at h
    obtain ⟨⟨h1, h2⟩, h3⟩ := h
    have ih := tl_spec i hd ps cs h3
    unfold tg_
    unfold Op.lookupswitch.offset
    by_cases q : i = b.1
    · rw [if_pos q]
      simp [h1, q, h2]
    · rw [if_neg q]
      rw [← ih]
      have : ¬ a.1 = i := fun z => q (by rw [← h1, z])
      simp [this, Ne.symm this]
theorem tr_tbl {T : Type} {G : gv_t} {Z : zx_t} {Gd : T → Prop} {cc : ByteArray} {own : String} {nL : Nat} {ret : Option FieldType} {pc : Nat} {L : lo_t} {st : List Value} {h : ph_t} {o : Option T} {dflt lo hi : Int} {offs : Array Int} {len : Nat} {x : Int32} (C : Cz G Z cc own nL ret) (hd : decode cc pc = .ok (.tableswitch dflt lo hi offs, len)) (cs : List (Int × Nat)) (t : Nat) (hk : tk_ pc dflt lo hi offs cs t = true)
    (k : Tr G Z Gd (tg_ cs t x.toInt) L st h o) : Tr G Z Gd pc L (.int x :: st) h o := by
  intro r hr hg
  have K := k r hr hg
  refine ⟨K.1, fun X kx H locs ls a b c d e => ?_⟩
  have C := C X kx
  rcases tk_spec hk x.toInt with ⟨h1, h2, off, h3, h4⟩ | ⟨h1, h2⟩
  · exact lv_tableIn C.1 C.2.1 hd h1 h2 h3 h4 (K.2 X kx H locs ls a b c d e)
  · exact lv_tableOut C.1 C.2.1 hd h1 h2 (K.2 X kx H locs ls a b c d e)
theorem tr_lkp {T : Type} {G : gv_t} {Z : zx_t} {Gd : T → Prop} {cc : ByteArray} {own : String} {nL : Nat} {ret : Option FieldType} {pc : Nat} {L : lo_t} {st : List Value} {h : ph_t} {o : Option T} {dflt : Int} {ps : Array (Int × Int)} {len : Nat} {x : Int32} (C : Cz G Z cc own nL ret) (hd : decode cc pc = .ok (.lookupswitch dflt ps, len)) (hp : (ps.toList.zip (ps.toList.drop 1)).all (fun (a, next) => a.1 < next.1) = true) (cs : List (Int × Nat)) (t : Nat) (hk : tl_ pc dflt ps.toList cs t = true)
    (k : Tr G Z Gd (tg_ cs t x.toInt) L st h o) : Tr G Z Gd pc L (.int x :: st) h o := by
  intro r hr hg
  have K := k r hr hg
  refine ⟨K.1, fun X kx H locs ls a b c d e => ?_⟩
  have C := C X kx
  unfold tl_ at hk
  simp only [Bool.and_eq_true, decide_eq_true_eq] at hk
  exact lv_lookup C.1 C.2.1 hd hp rfl (tl_spec x.toInt hk.1 ps.toList cs hk.2) (K.2 X kx H locs ls a b c d e)
theorem tr_case {T : Type} {G : gv_t} {Z : zx_t} {Gd : T → Prop} {L : lo_t} {st : List Value} {h : ph_t} {o1 o2 : Option T} {x v : Int32} {i : Int} {t d : Nat} {cs : List (Int × Nat)} (hv : v.toInt = i)
    (k1 : Tr G Z Gd t L st h o1) (k2 : Tr G Z Gd (tg_ cs d x.toInt) L st h o2) : Tr G Z Gd (tg_ ((i, t) :: cs) d x.toInt) L st h (if x = v then o1 else o2) := by
  intro r hr hg
  unfold tg_
  by_cases q : x = v
  · rw [if_pos q] at hr
    rw [if_pos (by rw [q]; exact hv)]
    exact k1 r hr hg
  · rw [if_neg q] at hr
    rw [if_neg (fun z => q (Int32.toInt_inj.mp (by rw [hv]; exact z)))]
    exact k2 r hr hg
theorem tr_dflt {T : Type} {G : gv_t} {Z : zx_t} {Gd : T → Prop} {L : lo_t} {st : List Value} {h : ph_t} {o : Option T} {d : Nat} {i : Int} (k : Tr G Z Gd d L st h o) : Tr G Z Gd (tg_ [] d i) L st h o := k
