/-! CORE H: class tables, statics, constants, copies -/
def tb_cl : List vw_C := [(RX0, TX0, 30), (RX1, TX1, 22), (RX3, TX3, 77), (RX4, TX4, 8), (RX2, TX2, 8), (RX19, TX19, 3), (RX9, TX9, 2), (RX10, TX10, 2), (RX12, TX12, 1), (RX13, TX13, 1), (RX14, TX14, 3), (RX16, TX16, 1), (RX18, TX18, 3), (RX17, TX17, 3), (RX7, TX7, 1), (RX6, TX6, 1), (RX8, TX8, 3)]
def tb_ft (c : Nat) : Nat → FieldType := match c with
  | 0 => tyX0
  | 1 => tyX1
  | 2 => tyX3
  | 3 => tyX4
  | 4 => tyX2
  | 5 => tyX19
  | 6 => tyX9
  | 7 => tyX10
  | 8 => tyX12
  | 9 => tyX13
  | 10 => tyX14
  | 11 => tyX16
  | 12 => tyX18
  | 13 => tyX17
  | 14 => tyX7
  | 15 => tyX6
  | _ => tyX8
def gz_ (G : gv_t) : Prop :=
  va_Z "TruthBridge" "WITHOUT" "[J" (rf_ G (some 28)) (fun q => gv_B G ≤ q) (gv_s G) (gv_s G).heap ∧
  va_Z "java/lang/Throwable" "UNASSIGNED_STACK" "[Ljava/lang/StackTraceElement;" (rf_ G (some 29)) (fun q => gv_B G ≤ q) (gv_s G) (gv_s G).heap ∧
  va_Z "java/lang/Throwable" "SUPPRESSED_SENTINEL" "Ljava/util/List;" (rf_ G (some 30)) (fun q => gv_B G ≤ q) (gv_s G) (gv_s G).heap ∧
  va_Z "java/lang/String" "COMPACT_STRINGS" "Z" (.int 1) (fun q => gv_B G ≤ q) (gv_s G) (gv_s G).heap ∧
  va_Z "jdk/internal/util/Preconditions" "SIOOBE_FORMATTER" "Ljava/util/function/BiFunction;" (rf_ G (some 31)) (fun q => gv_B G ≤ q) (gv_s G) (gv_s G).heap ∧
  ∃ t : Nat, gv_x G 28 = some t ∧ va_T .long t 6 (fun j => .long (wt_ j)) (fun q => gv_B G ≤ q) (gv_s G) (gv_s G).heap
def st_tx : List String := ["facts", "person", "place", "path", "turn", "say", "side", "weight", "saying", "knows", "gain", "left", "here", "day", "price", "fault", "or", "and", "not", "if", "a", "b", "c", "d", "e", "f", "g", "h"]
/-- the text constants: every name of the i-th text in a class file stands for its cell, a String of just these letters -/
def gt_ (G : gv_t) : Prop :=
  (∀ (own : String) (k i : Nat) (tx : String), Cond.stringRef own k tx ∈ lw_tbl → st_tx[i]? = some tx → ∃ a : Nat, gv_x G i = some a ∧ vk_R own k tx a (gv_s G)) ∧
  ∃ (adK adV : Nat → Nat), ∀ i, i < 28 → (va_O "java/lang/String" (adK i) (fun q => gv_B G ≤ q) (gv_s G) (gv_s G).heap ∧ va_OF "java/lang/String" "coder" "B" (.int 0) (adK i) (fun q => gv_B G ≤ q) (gv_s G) (gv_s G).heap ∧ va_OF "java/lang/String" "value" "[B" (.ref (adV i)) (adK i) (fun q => gv_B G ≤ q) (gv_s G) (gv_s G).heap ∧
    va_T .byte (adV i) ((st_tx.map String.length).getD i 0) (fun j => .int (((st_tx.map fun s => s.toList.map fun c => Int32.ofNat c.toNat).getD i []).getD j 0)) (fun q => gv_B G ≤ q) (gv_s G) (gv_s G).heap) ∧ gv_x G i = some (adK i) ∧ gv_x G (32 + i) = some (adV i)
def gw_ (G : gv_t) : Prop := gv_c G = tb_cl ∧ gv_f G = tb_ft ∧ gv_ok G ∧ gz_ G ∧ gt_ G
theorem cx_0 {G : gv_t} (w : gw_ G) : gv_ok G := w.2.2.1
theorem kX0 {G : gv_t} (w : gw_ G) : kc_ G 0 RX0 TX0 30 tyX0 := ⟨by decide, by rw [w.1]; rfl, fun j => by rw [w.2.1]; rfl, in_X0, tyX0_ok, nmX0⟩
theorem kX1 {G : gv_t} (w : gw_ G) : kc_ G 1 RX1 TX1 22 tyX1 := ⟨by decide, by rw [w.1]; rfl, fun j => by rw [w.2.1]; rfl, in_X1, tyX1_ok, nmX1⟩
theorem kX3 {G : gv_t} (w : gw_ G) : kc_ G 2 RX3 TX3 77 tyX3 := ⟨by decide, by rw [w.1]; rfl, fun j => by rw [w.2.1]; rfl, in_X3, tyX3_ok, nmX3⟩
theorem kX4 {G : gv_t} (w : gw_ G) : kc_ G 3 RX4 TX4 8 tyX4 := ⟨by decide, by rw [w.1]; rfl, fun j => by rw [w.2.1]; rfl, in_X4, tyX4_ok, nmX4⟩
theorem kX2 {G : gv_t} (w : gw_ G) : kc_ G 4 RX2 TX2 8 tyX2 := ⟨by decide, by rw [w.1]; rfl, fun j => by rw [w.2.1]; rfl, in_X2, tyX2_ok, nmX2⟩
theorem kX19 {G : gv_t} (w : gw_ G) : kc_ G 5 RX19 TX19 3 tyX19 := ⟨by decide, by rw [w.1]; rfl, fun j => by rw [w.2.1]; rfl, in_X19, tyX19_ok, nmX19⟩
theorem kX9 {G : gv_t} (w : gw_ G) : kc_ G 6 RX9 TX9 2 tyX9 := ⟨by decide, by rw [w.1]; rfl, fun j => by rw [w.2.1]; rfl, in_X9, tyX9_ok, nmX9⟩
theorem kX10 {G : gv_t} (w : gw_ G) : kc_ G 7 RX10 TX10 2 tyX10 := ⟨by decide, by rw [w.1]; rfl, fun j => by rw [w.2.1]; rfl, in_X10, tyX10_ok, nmX10⟩
theorem kX12 {G : gv_t} (w : gw_ G) : kc_ G 8 RX12 TX12 1 tyX12 := ⟨by decide, by rw [w.1]; rfl, fun j => by rw [w.2.1]; rfl, in_X12, tyX12_ok, nmX12⟩
theorem kX13 {G : gv_t} (w : gw_ G) : kc_ G 9 RX13 TX13 1 tyX13 := ⟨by decide, by rw [w.1]; rfl, fun j => by rw [w.2.1]; rfl, in_X13, tyX13_ok, nmX13⟩
theorem kX14 {G : gv_t} (w : gw_ G) : kc_ G 10 RX14 TX14 3 tyX14 := ⟨by decide, by rw [w.1]; rfl, fun j => by rw [w.2.1]; rfl, in_X14, tyX14_ok, nmX14⟩
theorem kX16 {G : gv_t} (w : gw_ G) : kc_ G 11 RX16 TX16 1 tyX16 := ⟨by decide, by rw [w.1]; rfl, fun j => by rw [w.2.1]; rfl, in_X16, tyX16_ok, nmX16⟩
theorem kX18 {G : gv_t} (w : gw_ G) : kc_ G 12 RX18 TX18 3 tyX18 := ⟨by decide, by rw [w.1]; rfl, fun j => by rw [w.2.1]; rfl, in_X18, tyX18_ok, nmX18⟩
theorem kX17 {G : gv_t} (w : gw_ G) : kc_ G 13 RX17 TX17 3 tyX17 := ⟨by decide, by rw [w.1]; rfl, fun j => by rw [w.2.1]; rfl, in_X17, tyX17_ok, nmX17⟩
theorem kX7 {G : gv_t} (w : gw_ G) : kc_ G 14 RX7 TX7 1 tyX7 := ⟨by decide, by rw [w.1]; rfl, fun j => by rw [w.2.1]; rfl, in_X7, tyX7_ok, nmX7⟩
theorem kX6 {G : gv_t} (w : gw_ G) : kc_ G 15 RX6 TX6 1 tyX6 := ⟨by decide, by rw [w.1]; rfl, fun j => by rw [w.2.1]; rfl, in_X6, tyX6_ok, nmX6⟩
theorem kX8 {G : gv_t} (w : gw_ G) : kc_ G 16 RX8 TX8 3 tyX8 := ⟨by decide, by rw [w.1]; rfl, fun j => by rw [w.2.1]; rfl, in_X8, tyX8_ok, nmX8⟩
theorem tr_ldc {T : Type} {G : gv_t} {Z : zx_t} {Gd : T → Prop} {cc : ByteArray} {own : String} {nL : Nat} {ret : Option FieldType} {pc : Nat} {L : lo_t} {st : List Value} {h : ph_t} {o : Option T} {idx : Nat} {v : Int32} (C : Cz G Z cc own nL ret) (pc' : Nat) (hp : pc + 2 = pc') (hd : decode cc pc = .ok (.ldc idx, 2)) (hw : Cond.constant own idx v ∈ lw_all)
    (k : Tr G Z Gd pc' L (.int v :: st) h o) : Tr G Z Gd pc L (st) h o := by
  subst hp
  intro r hr hg
  have K := k r hr hg
  exact ⟨K.1, fun X kx H locs ls a b c d e => have C := C X kx; lv_ldc C.1 C.2.1 C.2.2.2.1 (cx_w C hw) hd (K.2 X kx H locs ls a b c d e)⟩
theorem tr_ldcw {T : Type} {G : gv_t} {Z : zx_t} {Gd : T → Prop} {cc : ByteArray} {own : String} {nL : Nat} {ret : Option FieldType} {pc : Nat} {L : lo_t} {st : List Value} {h : ph_t} {o : Option T} {idx : Nat} {v : Int32} (C : Cz G Z cc own nL ret) (pc' : Nat) (hp : pc + 3 = pc') (hd : decode cc pc = .ok (.ldc_w idx, 3)) (hw : Cond.constant own idx v ∈ lw_all)
    (k : Tr G Z Gd pc' L (.int v :: st) h o) : Tr G Z Gd pc L (st) h o := by
  subst hp
  intro r hr hg
  have K := k r hr hg
  exact ⟨K.1, fun X kx H locs ls a b c d e => have C := C X kx; lv_ldcw C.1 C.2.1 C.2.2.2.1 (cx_w C hw) hd (K.2 X kx H locs ls a b c d e)⟩
theorem tr_ldc2 {T : Type} {G : gv_t} {Z : zx_t} {Gd : T → Prop} {cc : ByteArray} {own : String} {nL : Nat} {ret : Option FieldType} {pc : Nat} {L : lo_t} {st : List Value} {h : ph_t} {o : Option T} {idx : Nat} {v : Int64} (C : Cz G Z cc own nL ret) (pc' : Nat) (hp : pc + 3 = pc') (hd : decode cc pc = .ok (.ldc2_w idx, 3)) (hw : Cond.constantLong own idx v ∈ lw_all)
    (k : Tr G Z Gd pc' L (.long v :: st) h o) : Tr G Z Gd pc L (st) h o := by
  subst hp
  intro r hr hg
  have K := k r hr hg
  exact ⟨K.1, fun X kx H locs ls a b c d e => have C := C X kx; lv_ldc2 C.1 C.2.1 C.2.2.2.1 (cx_w C hw) hd (K.2 X kx H locs ls a b c d e)⟩
def lc_ (x y : Int64) : Int32 := lg_cmp x y
theorem tr_lcmp {T : Type} {G : gv_t} {Z : zx_t} {Gd : T → Prop} {cc : ByteArray} {own : String} {nL : Nat} {ret : Option FieldType} {pc : Nat} {L : lo_t} {st : List Value} {h : ph_t} {o : Option T} {x y : Int64} (C : Cz G Z cc own nL ret) (pc' : Nat) (hp : pc + 1 = pc') (hd : decode cc pc = .ok (.lcmp, 1))
    (k : Tr G Z Gd pc' L (.int (lc_ x y) :: st) h o) : Tr G Z Gd pc L (.long y :: .long x :: st) h o := by
  subst hp
  intro r hr hg
  have K := k r hr hg
  exact ⟨K.1, fun X kx H locs ls a b c d e => have C := C X kx; W.lcmp C.1 C.2.1 hd (K.2 X kx H locs ls a b c d e)⟩
theorem tr_idiv {T : Type} {G : gv_t} {Z : zx_t} {Gd : T → Prop} {cc : ByteArray} {own : String} {nL : Nat} {ret : Option FieldType} {pc : Nat} {L : lo_t} {st : List Value} {h : ph_t} {o : Option T} {x y : Int32} (C : Cz G Z cc own nL ret) (pc' : Nat) (hp : pc + 1 = pc') (hd : decode cc pc = .ok (.idiv, 1))
    (k : Tr G Z Gd pc' L (.int (x / y) :: st) h o) : Tr G Z Gd pc L (.int y :: .int x :: st) h (if y = 0 then none else o) := by
  intro r hr hg
  split at hr
  · cases hr
  · rename_i hy
    exact tr_idivK C pc' hp hd hy k r hr hg
theorem tr_irem {T : Type} {G : gv_t} {Z : zx_t} {Gd : T → Prop} {cc : ByteArray} {own : String} {nL : Nat} {ret : Option FieldType} {pc : Nat} {L : lo_t} {st : List Value} {h : ph_t} {o : Option T} {x y : Int32} (C : Cz G Z cc own nL ret) (pc' : Nat) (hp : pc + 1 = pc') (hd : decode cc pc = .ok (.irem, 1))
    (k : Tr G Z Gd pc' L (.int (ir_ x y) :: st) h o) : Tr G Z Gd pc L (.int y :: .int x :: st) h (if y = 0 then none else o) := by
  intro r hr hg
  split at hr
  · cases hr
  · rename_i hy
    exact tr_iremK C pc' hp hd hy k r hr hg
theorem tr_ldiv {T : Type} {G : gv_t} {Z : zx_t} {Gd : T → Prop} {cc : ByteArray} {own : String} {nL : Nat} {ret : Option FieldType} {pc : Nat} {L : lo_t} {st : List Value} {h : ph_t} {o : Option T} {x y : Int64} (C : Cz G Z cc own nL ret) (pc' : Nat) (hp : pc + 1 = pc') (hd : decode cc pc = .ok (.ldiv, 1))
    (k : Tr G Z Gd pc' L (.long (x / y) :: st) h o) : Tr G Z Gd pc L (.long y :: .long x :: st) h (if y = 0 then none else o) := by
  intro r hr hg
  split at hr
  · cases hr
  · rename_i hy
    exact tr_ldivK C pc' hp hd hy k r hr hg
theorem tr_lrem {T : Type} {G : gv_t} {Z : zx_t} {Gd : T → Prop} {cc : ByteArray} {own : String} {nL : Nat} {ret : Option FieldType} {pc : Nat} {L : lo_t} {st : List Value} {h : ph_t} {o : Option T} {x y : Int64} (C : Cz G Z cc own nL ret) (pc' : Nat) (hp : pc + 1 = pc') (hd : decode cc pc = .ok (.lrem, 1))
    (k : Tr G Z Gd pc' L (.long (lr_ x y) :: st) h o) : Tr G Z Gd pc L (.long y :: .long x :: st) h (if y = 0 then none else o) := by
  intro r hr hg
  split at hr
  · cases hr
  · rename_i hy
    exact tr_lremK C pc' hp hd hy k r hr hg
theorem zs_at {G : gv_t} {Z : zx_t} {X : fx_t} {cc : ByteArray} {own : String} {nL : Nat} {ret : Option FieldType} {h : ph_t} {H : Heap} {Cn n d : String} {v : Value} (C : Cx G Z X cc own nL ret) (P : PR G h H) (hz : va_Z Cn n d v (fun q => gv_B G ≤ q) (gv_s G) (gv_s G).heap) : va_Z Cn n d v (fun q => gv_B G ≤ q) (fx_s X) H := by
  obtain ⟨-, -, -, -, -, -, -, hW, -⟩ := C
  exact (hz.kept (fun a ha _ => P.2.1 a ha)).moved hW.alike
theorem tr_gets28 {T : Type} {G : gv_t} {Z : zx_t} {Gd : T → Prop} {cc : ByteArray} {own : String} {nL : Nat} {ret : Option FieldType} {pc : Nat} {L : lo_t} {st : List Value} {h : ph_t} {o : Option T} {idx : Nat} (C : Cz G Z cc own nL ret) (w : gw_ G) (pc' : Nat) (hp : pc + 3 = pc') (hd : decode cc pc = .ok (.getstatic idx, 3)) (hl : Cond.fieldLink own idx "TruthBridge" "WITHOUT" "[J" ∈ lw_all)
    (k : Tr G Z Gd pc' L (rf_ G (some 28) :: st) h o) : Tr G Z Gd pc L st h o := by
  subst hp
  intro r hr hg
  have K := k r hr hg
  refine ⟨K.1, fun X kx H locs ls a1 a2 a3 a4 a5 => ?_⟩
  have C := C X kx
  obtain ⟨cf, kf, fi, f, a, cell, h1, h2, h3, h4, h5, h6, h7, h8⟩ := zs_at C a3 w.2.2.2.1.1
  exact W.gets C.1 C.2.1 C.2.2.2.1 (cx_w C hl) h1 h2 h3 h4 h5 (fun e => by rw [e] at h6; cases h6) h7 rfl hd (K.2 X kx H locs ls a1 a2 a3 a4 a5)
theorem tr_gets29 {T : Type} {G : gv_t} {Z : zx_t} {Gd : T → Prop} {cc : ByteArray} {own : String} {nL : Nat} {ret : Option FieldType} {pc : Nat} {L : lo_t} {st : List Value} {h : ph_t} {o : Option T} {idx : Nat} (C : Cz G Z cc own nL ret) (w : gw_ G) (pc' : Nat) (hp : pc + 3 = pc') (hd : decode cc pc = .ok (.getstatic idx, 3)) (hl : Cond.fieldLink own idx "java/lang/Throwable" "UNASSIGNED_STACK" "[Ljava/lang/StackTraceElement;" ∈ lw_all)
    (k : Tr G Z Gd pc' L (rf_ G (some 29) :: st) h o) : Tr G Z Gd pc L st h o := by
  subst hp
  intro r hr hg
  have K := k r hr hg
  refine ⟨K.1, fun X kx H locs ls a1 a2 a3 a4 a5 => ?_⟩
  have C := C X kx
  obtain ⟨cf, kf, fi, f, a, cell, h1, h2, h3, h4, h5, h6, h7, h8⟩ := zs_at C a3 w.2.2.2.1.2.1
  exact W.gets C.1 C.2.1 C.2.2.2.1 (cx_w C hl) h1 h2 h3 h4 h5 (fun e => by rw [e] at h6; cases h6) h7 rfl hd (K.2 X kx H locs ls a1 a2 a3 a4 a5)
theorem tr_gets30 {T : Type} {G : gv_t} {Z : zx_t} {Gd : T → Prop} {cc : ByteArray} {own : String} {nL : Nat} {ret : Option FieldType} {pc : Nat} {L : lo_t} {st : List Value} {h : ph_t} {o : Option T} {idx : Nat} (C : Cz G Z cc own nL ret) (w : gw_ G) (pc' : Nat) (hp : pc + 3 = pc') (hd : decode cc pc = .ok (.getstatic idx, 3)) (hl : Cond.fieldLink own idx "java/lang/Throwable" "SUPPRESSED_SENTINEL" "Ljava/util/List;" ∈ lw_all)
    (k : Tr G Z Gd pc' L (rf_ G (some 30) :: st) h o) : Tr G Z Gd pc L st h o := by
  subst hp
  intro r hr hg
  have K := k r hr hg
  refine ⟨K.1, fun X kx H locs ls a1 a2 a3 a4 a5 => ?_⟩
  have C := C X kx
  obtain ⟨cf, kf, fi, f, a, cell, h1, h2, h3, h4, h5, h6, h7, h8⟩ := zs_at C a3 w.2.2.2.1.2.2.1
  exact W.gets C.1 C.2.1 C.2.2.2.1 (cx_w C hl) h1 h2 h3 h4 h5 (fun e => by rw [e] at h6; cases h6) h7 rfl hd (K.2 X kx H locs ls a1 a2 a3 a4 a5)
theorem tr_gets31 {T : Type} {G : gv_t} {Z : zx_t} {Gd : T → Prop} {cc : ByteArray} {own : String} {nL : Nat} {ret : Option FieldType} {pc : Nat} {L : lo_t} {st : List Value} {h : ph_t} {o : Option T} {idx : Nat} (C : Cz G Z cc own nL ret) (w : gw_ G) (pc' : Nat) (hp : pc + 3 = pc') (hd : decode cc pc = .ok (.getstatic idx, 3)) (hl : Cond.fieldLink own idx "jdk/internal/util/Preconditions" "SIOOBE_FORMATTER" "Ljava/util/function/BiFunction;" ∈ lw_all)
    (k : Tr G Z Gd pc' L (rf_ G (some 31) :: st) h o) : Tr G Z Gd pc L st h o := by
  subst hp
  intro r hr hg
  have K := k r hr hg
  refine ⟨K.1, fun X kx H locs ls a1 a2 a3 a4 a5 => ?_⟩
  have C := C X kx
  obtain ⟨cf, kf, fi, f, a, cell, h1, h2, h3, h4, h5, h6, h7, h8⟩ := zs_at C a3 w.2.2.2.1.2.2.2.2.1
  exact W.gets C.1 C.2.1 C.2.2.2.1 (cx_w C hl) h1 h2 h3 h4 h5 (fun e => by rw [e] at h6; cases h6) h7 rfl hd (K.2 X kx H locs ls a1 a2 a3 a4 a5)
theorem tr_getsN28 {T : Type} {G : gv_t} {Z : zx_t} {Gd : T → Prop} {cc : ByteArray} {own : String} {nL : Nat} {ret : Option FieldType} {pc : Nat} {L : lo_t} {st : List Value} {h : ph_t} {o : Option T} {idx : Nat} (C : Cz G Z cc own nL ret) (w : gw_ G) (pc' : Nat) (hp : pc + 3 = pc') (hd : decode cc pc = .ok (.getstatic idx, 3)) {host : String} (hl : Cond.fieldLinkNest own idx "TruthBridge" "WITHOUT" "[J" host ∈ lw_tbl)
    (k : Tr G Z Gd pc' L (rf_ G (some 28) :: st) h o) : Tr G Z Gd pc L st h o := by
  subst hp
  intro r hr hg
  have K := k r hr hg
  refine ⟨K.1, fun X kx H locs ls a1 a2 a3 a4 a5 => ?_⟩
  have C := C X kx
  obtain ⟨cf, kf, fi, f, a, cell, h1, h2, h3, h4, h5, h6, h7, h8⟩ := zs_at C a3 w.2.2.2.1.1
  exact va_WgetsN C.1 C.2.1 C.2.2.2.1 (va_Nw.use rfl (va_Nw.warmF (cx_nw C hl rfl).2 (cx_nw C hl rfl).1)) h1 h2 h3 h4 h5 (fun e => by rw [e] at h6; cases h6) h7 rfl hd (K.2 X kx H locs ls a1 a2 a3 a4 a5)
theorem tr_getsN29 {T : Type} {G : gv_t} {Z : zx_t} {Gd : T → Prop} {cc : ByteArray} {own : String} {nL : Nat} {ret : Option FieldType} {pc : Nat} {L : lo_t} {st : List Value} {h : ph_t} {o : Option T} {idx : Nat} (C : Cz G Z cc own nL ret) (w : gw_ G) (pc' : Nat) (hp : pc + 3 = pc') (hd : decode cc pc = .ok (.getstatic idx, 3)) {host : String} (hl : Cond.fieldLinkNest own idx "java/lang/Throwable" "UNASSIGNED_STACK" "[Ljava/lang/StackTraceElement;" host ∈ lw_tbl)
    (k : Tr G Z Gd pc' L (rf_ G (some 29) :: st) h o) : Tr G Z Gd pc L st h o := by
  subst hp
  intro r hr hg
  have K := k r hr hg
  refine ⟨K.1, fun X kx H locs ls a1 a2 a3 a4 a5 => ?_⟩
  have C := C X kx
  obtain ⟨cf, kf, fi, f, a, cell, h1, h2, h3, h4, h5, h6, h7, h8⟩ := zs_at C a3 w.2.2.2.1.2.1
  exact va_WgetsN C.1 C.2.1 C.2.2.2.1 (va_Nw.use rfl (va_Nw.warmF (cx_nw C hl rfl).2 (cx_nw C hl rfl).1)) h1 h2 h3 h4 h5 (fun e => by rw [e] at h6; cases h6) h7 rfl hd (K.2 X kx H locs ls a1 a2 a3 a4 a5)
theorem tr_getsN30 {T : Type} {G : gv_t} {Z : zx_t} {Gd : T → Prop} {cc : ByteArray} {own : String} {nL : Nat} {ret : Option FieldType} {pc : Nat} {L : lo_t} {st : List Value} {h : ph_t} {o : Option T} {idx : Nat} (C : Cz G Z cc own nL ret) (w : gw_ G) (pc' : Nat) (hp : pc + 3 = pc') (hd : decode cc pc = .ok (.getstatic idx, 3)) {host : String} (hl : Cond.fieldLinkNest own idx "java/lang/Throwable" "SUPPRESSED_SENTINEL" "Ljava/util/List;" host ∈ lw_tbl)
    (k : Tr G Z Gd pc' L (rf_ G (some 30) :: st) h o) : Tr G Z Gd pc L st h o := by
  subst hp
  intro r hr hg
  have K := k r hr hg
  refine ⟨K.1, fun X kx H locs ls a1 a2 a3 a4 a5 => ?_⟩
  have C := C X kx
  obtain ⟨cf, kf, fi, f, a, cell, h1, h2, h3, h4, h5, h6, h7, h8⟩ := zs_at C a3 w.2.2.2.1.2.2.1
  exact va_WgetsN C.1 C.2.1 C.2.2.2.1 (va_Nw.use rfl (va_Nw.warmF (cx_nw C hl rfl).2 (cx_nw C hl rfl).1)) h1 h2 h3 h4 h5 (fun e => by rw [e] at h6; cases h6) h7 rfl hd (K.2 X kx H locs ls a1 a2 a3 a4 a5)
theorem tr_getsN31 {T : Type} {G : gv_t} {Z : zx_t} {Gd : T → Prop} {cc : ByteArray} {own : String} {nL : Nat} {ret : Option FieldType} {pc : Nat} {L : lo_t} {st : List Value} {h : ph_t} {o : Option T} {idx : Nat} (C : Cz G Z cc own nL ret) (w : gw_ G) (pc' : Nat) (hp : pc + 3 = pc') (hd : decode cc pc = .ok (.getstatic idx, 3)) {host : String} (hl : Cond.fieldLinkNest own idx "jdk/internal/util/Preconditions" "SIOOBE_FORMATTER" "Ljava/util/function/BiFunction;" host ∈ lw_tbl)
    (k : Tr G Z Gd pc' L (rf_ G (some 31) :: st) h o) : Tr G Z Gd pc L st h o := by
  subst hp
  intro r hr hg
  have K := k r hr hg
  refine ⟨K.1, fun X kx H locs ls a1 a2 a3 a4 a5 => ?_⟩
  have C := C X kx
  obtain ⟨cf, kf, fi, f, a, cell, h1, h2, h3, h4, h5, h6, h7, h8⟩ := zs_at C a3 w.2.2.2.1.2.2.2.2.1
  exact va_WgetsN C.1 C.2.1 C.2.2.2.1 (va_Nw.use rfl (va_Nw.warmF (cx_nw C hl rfl).2 (cx_nw C hl rfl).1)) h1 h2 h3 h4 h5 (fun e => by rw [e] at h6; cases h6) h7 rfl hd (K.2 X kx H locs ls a1 a2 a3 a4 a5)
theorem xW_some {r : Option Nat} {i : Int32} {v : Int64} (e : xW r i = some v) : r = some 28 ∧ 0 ≤ i.toInt ∧ i.toInt < 6 ∧ v = wt_ i.toNatClampNeg := by
  unfold xW at e
  split at e
  · rename_i q
    exact ⟨q.1, q.2.1, q.2.2, (Option.some.inj e).symm⟩
  · cases e
theorem tr_laldW {T : Type} {G : gv_t} {Z : zx_t} {Gd : T → Prop} {cc : ByteArray} {own : String} {nL : Nat} {ret : Option FieldType} {pc : Nat} {L : lo_t} {st : List Value} {h : ph_t} {o : Int64 → Option T} {x : Option Nat} {i : Int32} (C : Cz G Z cc own nL ret) (w : gw_ G) (pc' : Nat) (hp : pc + 1 = pc') (hd : decode cc pc = .ok (.laload, 1))
    (k : ∀ v, Tr G Z Gd pc' L (.long v :: st) h (o v)) : Tr G Z Gd pc L (.int i :: rf_ G x :: st) h ((xW x i).bind o) := by
  subst hp
  intro r hr hg
  obtain ⟨v, h1, h2⟩ := bind_some_of hr
  obtain ⟨rfl, i1, i2, rfl⟩ := xW_some h1
  have K := k _ r h2 hg
  refine ⟨K.1, fun X kx H locs ls a1 a2 a3 a4 a5 => ?_⟩
  have C := C X kx
  obtain ⟨t, ht, hT⟩ := w.2.2.2.1.2.2.2.2.2
  have hW : (gv_s G).WarmedH (fx_s X).vm := by
    obtain ⟨-, -, -, -, -, -, -, hW, -⟩ := C
    exact hW
  obtain ⟨cell, c1, c2, c3, c4, c5, c6, c7⟩ := (hT.kept (fun a ha _ => a3.2.1 a ha)).moved hW.alike
  obtain ⟨j1, j2⟩ := ix_in (n := 6) i1 i2
  have e : rf_ G (some 28) = .ref t := by simp [rf_, rm_, ht, va_rf]
  rw [e]
  exact W.lald C.1 C.2.1 c1 c2 c3 (fun q => by rcases q with q | q; exact j1 (Or.inl q); omega) (c6 _ j2) rfl rfl hd (K.2 X kx H locs ls a1 a2 a3 a4 a5)
theorem tr_getsC {T : Type} {G : gv_t} {Z : zx_t} {Gd : T → Prop} {cc : ByteArray} {own : String} {nL : Nat} {ret : Option FieldType} {pc : Nat} {L : lo_t} {st : List Value} {h : ph_t} {o : Option T} {idx : Nat} (C : Cz G Z cc own nL ret) (w : gw_ G) (pc' : Nat) (hp : pc + 3 = pc') (hd : decode cc pc = .ok (.getstatic idx, 3)) (hl : Cond.fieldLink own idx "java/lang/String" "COMPACT_STRINGS" "Z" ∈ lw_all)
    (k : Tr G Z Gd pc' L (.int 1 :: st) h o) : Tr G Z Gd pc L st h o := by
  subst hp
  intro r hr hg
  have K := k r hr hg
  refine ⟨K.1, fun X kx H locs ls a1 a2 a3 a4 a5 => ?_⟩
  have C := C X kx
  obtain ⟨cf, kf, fi, f, a, cell, h1, h2, h3, h4, h5, h6, h7, h8⟩ := zs_at C a3 w.2.2.2.1.2.2.2.1
  exact W.gets C.1 C.2.1 C.2.2.2.1 (cx_w C hl) h1 h2 h3 h4 h5 (fun e => by rw [e] at h6; cases h6) h7 rfl hd (K.2 X kx H locs ls a1 a2 a3 a4 a5)
theorem ac_I_some {h h' : ph_t} {s d : Option Nat} {sp dp n : Int32} (q : ac_I h s sp d dp n = some h') : ∃ a b, s = some a ∧ d = some b ∧ ph_T h a = 20 ∧ ph_T h b = 20 ∧ 0 ≤ sp.toInt ∧ 0 ≤ dp.toInt ∧ 0 ≤ n.toInt ∧ sp.toInt + n.toInt ≤ (ph_N h a : Int) ∧ dp.toInt + n.toInt ≤ (ph_N h b : Int) ∧ h' = ph_cI h a b sp.toNatClampNeg dp.toNatClampNeg n.toNatClampNeg := by
  unfold ac_I at q
  cases s with
  | none => cases q
  | some a =>
    cases d with
    | none => cases q
    | some b =>
      simp only [Option.bind_some] at q
      split at q
      · rename_i z
        exact ⟨a, b, rfl, rfl, z.1, z.2.1, z.2.2.1, z.2.2.2.1, z.2.2.2.2.1, z.2.2.2.2.2.1, z.2.2.2.2.2.2, (Option.some.inj q).symm⟩
      · cases q
theorem cI_Ib {h : ph_t} {a d sp dp n : Nat} : ∀ b, b ≠ d → ph_I (ph_cI h a d sp dp n) b = ph_I h b := by
  intro b q
  funext i
  simp [ph_cI, ph_I, ph_c, q]
set_option maxHeartbeats 4000000 in
theorem tr_acopyI {T : Type} {G : gv_t} {Z : zx_t} {Gd : T → Prop} {cc : ByteArray} {own : String} {nL : Nat} {ret : Option FieldType} {pc : Nat} {L : lo_t} {h : ph_t} {o : ph_t → Option T} {fr lo idx : Nat} {rest : List Value} {s d : Option Nat} {sp dp n : Int32} (C : Cz G Z cc own nL ret) (Rm : Rz Z fr lo) (pc' : Nat) (hp : pc + 3 = pc') (hd : decode cc pc = .ok (.invokestatic idx, 3)) (hl : Cond.methodLink own idx arraycopyName ∈ lw_all) (hnat : Cond.native arraycopyName ∈ lw_all) (hsta : Cond.static arraycopyName ∈ lw_all) (hini : Cond.initialized "java/lang/System" ∈ lw_all) (hf : 1 ≤ fr) (hlo : 40 ≤ lo) (hrest : (rest.map fun v => v.category).sum ≤ 8)
    (k : ∀ h', Tr G Z Gd pc' L rest h' (o h')) : Tr G Z Gd pc L (.int n :: .int dp :: rf_ G d :: .int sp :: rf_ G s :: rest) h ((ac_I h s sp d dp n).bind o) := by
  subst hp
  intro r hr hg
  obtain ⟨h', h1, h2⟩ := bind_some_of hr
  obtain ⟨a0, b0, rfl, rfl, ta, tb, p1, p2, p3, p4, p5, rfl⟩ := ac_I_some h1
  have K := k _ r h2 hg
  refine ⟨K.1, fun X kx H locs ls a1 a2 a3 a4 a5 => ?_⟩
  have C := C X kx
  have Rm := Rm X kx
  obtain ⟨g1, g2⟩ := wx_ a3 ta (by decide) (by decide)
  obtain ⟨g3, g4⟩ := wx_ a3 tb (by decide) (by decide)
  rw [va_hi (Or.inl ta)] at g2
  rw [va_hi (Or.inl tb)] at g4
  rw [rf_some g1, rf_some g3]
  have nn : ∀ z : Int32, 0 ≤ z.toInt → ¬ z < 0 ∧ z.toInt = (z.toNatClampNeg : Int) := by
    intro z hz
    refine ⟨fun q => ?_, ?_⟩
    · have := Int32.lt_iff_toInt_lt.mp q
      simp at this
      omega
    · show z.toInt = ((z.toInt.toNat : Nat) : Int)
      omega
  obtain ⟨s1, s2⟩ := nn sp p1
  obtain ⟨d1, d2⟩ := nn dp p2
  obtain ⟨n1, n2⟩ := nn n p3
  have hA := (cx_ar C (t := 20) (by decide) (by decide)).1
  obtain ⟨-, k0, hk0, cm0, hkk0⟩ := hA (ph_N h a0) (fun j => .int (ph_I h a0 j))
  obtain ⟨-, k1, hk1, cm1, hkk1⟩ := hA (ph_N h b0) (fun j => .int (ph_I h b0 j))
  have h4 : sp.toNatClampNeg + n.toNatClampNeg ≤ ph_N h a0 := by omega
  have h5 : dp.toNatClampNeg + n.toNatClampNeg ≤ ph_N h b0 := by omega
  have hnw : nativeFrameWords "java/lang/System" "arraycopy" 5 + 11 ≤ 32 := by decide
  intro T hT XX
  obtain ⟨vm', X', step⟩ := XX.arraycopy C.1 C.2.2.2.1 (cx_w C hl) (cx_w C hnat) (cx_w C hsta) (cx_w C hini) (src := gv_B G + (a0 - 64)) (dst := gv_B G + (b0 - 64)) (cs := vp_cell (gv_a G 20) (ph_N h a0, .inl (ph_I h a0))) (cd := vp_cell (gv_a G 20) (ph_N h b0, .inl (ph_I h b0))) (srcPos := sp) (destPos := dp) (n := n) (by rw [hT]; exact g2) (by rw [hT]; exact g4)
    (fun _ h => by cases h) (fun _ h => by cases h) (fun h => by cases h) (fun h => by cases h) hk0 hk1 hkk0 hkk1 (by simp [at_, refKind]) s1 d1 n1
    (by rw [s2, n2]; show ¬ _ > ((arrV (gv_a G 20) (ph_N h a0) (fun j => .int (ph_I h a0 j))).slots.size : Int); rw [arrV_size]; omega)
    (by rw [d2, n2]; show ¬ _ > ((arrV (gv_a G 20) (ph_N h b0) (fun j => .int (ph_I h b0 j))).slots.size : Int); rw [arrV_size]; omega)
    (fun vm₁ _ i hi => by
      have e : (vp_cell (gv_a G 20) (ph_N h a0, .inl (ph_I h a0))).slots.getD (sp.toNatClampNeg + i) .null = .int (ph_I h a0 (sp.toNatClampNeg + i)) := by
        show (arrV (gv_a G 20) (ph_N h a0) (fun j => .int (ph_I h a0 j))).slots.getD _ _ = _
        rw [Array.getD_eq_getD_getElem?, arrV_read _ _ (by omega)]
        rfl
      refine ⟨?_, ?_⟩
      · rw [e]
        rfl
      · rw [e]
        exact trivial)
    (g := F0 (fx_m X) pc ls (.int n :: .int dp :: .ref (gv_B G + (b0 - 64)) :: .int sp :: .ref (gv_B G + (a0 - 64)) :: rest)) rfl (by rw [← a5.1]) (rest := rest) rfl (by rw [C.2.1]; exact hd) (by rw [Rm.1]; exact hf) (by rw [Rm.2]; show 2 * 0 + _ + _ ≤ _; omega)
  have e1 : copied (vp_cell (gv_a G 20) (ph_N h a0, .inl (ph_I h a0))) (vp_cell (gv_a G 20) (ph_N h b0, .inl (ph_I h b0))) sp dp n = vp_cell (gv_a G 20) (ph_N h b0, .inl (va_cpy (ph_I h a0) (ph_I h b0) sp.toNatClampNeg dp.toNatClampNeg n.toNatClampNeg)) := va_copied (fun z => .int z) (gv_a G 20) (gv_a G 20) (ph_I h a0) (ph_I h b0) h4
  rw [e1] at X' step
  have hl : gv_B G + (b0 - 64) < H.size := (Array.getElem?_eq_some_iff.mp g4).1
  generalize hW : vp_cell (gv_a G 20) (ph_N h b0, .inl (va_cpy (ph_I h a0) (ph_I h b0) sp.toNatClampNeg dp.toNatClampNeg n.toNatClampNeg)) = W at X' step
  have hheap : ((T.setVm vm').setCell (gv_B G + (b0 - 64)) W).heap = H.setIfInBounds (gv_B G + (b0 - 64)) W := by rw [← hT]; rfl
  have oq : ∀ q : Nat, q ≠ gv_B G + (b0 - 64) → (H.setIfInBounds (gv_B G + (b0 - 64)) W)[q]? = H[q]? := fun q hq => by simp [Array.getElem?_setIfInBounds, Ne.symm hq]
  have z : (H.setIfInBounds (gv_B G + (b0 - 64)) W).size = H.size := by simp
  have hP : PR G (ph_cI h a0 b0 sp.toNatClampNeg dp.toNatClampNeg n.toNatClampNeg) (H.setIfInBounds (gv_B G + (b0 - 64)) W) := by
    refine a3.put g3 (fun _ => rfl) (fun _ => rfl) rfl cI_Ib (fun _ _ => rfl) (fun _ _ => rfl) z oq ⟨fun q => ?_, fun _ _ => ?_⟩
    · have q' : ph_T h b0 < 20 := q
      rw [tb] at q'
      omega
    · have tb' : ph_T (ph_cI h a0 b0 sp.toNatClampNeg dp.toNatClampNeg n.toNatClampNeg) b0 = 20 := tb
      rw [va_hi (Or.inl tb'), tb']
      rw [Array.getElem?_setIfInBounds_self_of_lt hl, ← hW]
      congr 3
      congr 1
      funext j
      simp [va_cpy, ph_cI, ph_I, ph_c]
  obtain ⟨t, b1, b2⟩ := K.2 X kx _ _ ls a1 a2 hP ⟨by rw [z]; exact a4.1, fun q g5 g6 => by
      rw [oq q (fun e => g6 (by rw [e]; exact Nat.le_add_right _ _))]
      exact a4.2.1 q g5 g6, fun q hq => by
      rcases List.mem_append.mp hq with h | h
      · exact a4.2.2 q h
      · obtain ⟨z, -, hz⟩ := List.mem_map.mp h
        rw [← hz]
        exact Nat.le_add_right _ _⟩ a5 _ hheap X'
  exact ⟨t, step t b1, b2⟩
theorem ac_L_some {h h' : ph_t} {s d : Option Nat} {sp dp n : Int32} (q : ac_L h s sp d dp n = some h') : ∃ a b, s = some a ∧ d = some b ∧ ph_T h a = 21 ∧ ph_T h b = 21 ∧ 0 ≤ sp.toInt ∧ 0 ≤ dp.toInt ∧ 0 ≤ n.toInt ∧ sp.toInt + n.toInt ≤ (ph_N h a : Int) ∧ dp.toInt + n.toInt ≤ (ph_N h b : Int) ∧ h' = ph_cL h a b sp.toNatClampNeg dp.toNatClampNeg n.toNatClampNeg := by
  unfold ac_L at q
  cases s with
  | none => cases q
  | some a =>
    cases d with
    | none => cases q
    | some b =>
      simp only [Option.bind_some] at q
      split at q
      · rename_i z
        exact ⟨a, b, rfl, rfl, z.1, z.2.1, z.2.2.1, z.2.2.2.1, z.2.2.2.2.1, z.2.2.2.2.2.1, z.2.2.2.2.2.2, (Option.some.inj q).symm⟩
      · cases q
theorem cL_Lb {h : ph_t} {a d sp dp n : Nat} : ∀ b, b ≠ d → ph_L (ph_cL h a d sp dp n) b = ph_L h b := by
  intro b q
  funext i
  simp [ph_cL, ph_L, ph_c, q]
set_option maxHeartbeats 4000000 in
theorem tr_acopyL {T : Type} {G : gv_t} {Z : zx_t} {Gd : T → Prop} {cc : ByteArray} {own : String} {nL : Nat} {ret : Option FieldType} {pc : Nat} {L : lo_t} {h : ph_t} {o : ph_t → Option T} {fr lo idx : Nat} {rest : List Value} {s d : Option Nat} {sp dp n : Int32} (C : Cz G Z cc own nL ret) (Rm : Rz Z fr lo) (pc' : Nat) (hp : pc + 3 = pc') (hd : decode cc pc = .ok (.invokestatic idx, 3)) (hl : Cond.methodLink own idx arraycopyName ∈ lw_all) (hnat : Cond.native arraycopyName ∈ lw_all) (hsta : Cond.static arraycopyName ∈ lw_all) (hini : Cond.initialized "java/lang/System" ∈ lw_all) (hf : 1 ≤ fr) (hlo : 40 ≤ lo) (hrest : (rest.map fun v => v.category).sum ≤ 8)
    (k : ∀ h', Tr G Z Gd pc' L rest h' (o h')) : Tr G Z Gd pc L (.int n :: .int dp :: rf_ G d :: .int sp :: rf_ G s :: rest) h ((ac_L h s sp d dp n).bind o) := by
  subst hp
  intro r hr hg
  obtain ⟨h', h1, h2⟩ := bind_some_of hr
  obtain ⟨a0, b0, rfl, rfl, ta, tb, p1, p2, p3, p4, p5, rfl⟩ := ac_L_some h1
  have K := k _ r h2 hg
  refine ⟨K.1, fun X kx H locs ls a1 a2 a3 a4 a5 => ?_⟩
  have C := C X kx
  have Rm := Rm X kx
  obtain ⟨g1, g2⟩ := wx_ a3 ta (by decide) (by decide)
  obtain ⟨g3, g4⟩ := wx_ a3 tb (by decide) (by decide)
  rw [va_hl ta] at g2
  rw [va_hl tb] at g4
  rw [rf_some g1, rf_some g3]
  have nn : ∀ z : Int32, 0 ≤ z.toInt → ¬ z < 0 ∧ z.toInt = (z.toNatClampNeg : Int) := by
    intro z hz
    refine ⟨fun q => ?_, ?_⟩
    · have := Int32.lt_iff_toInt_lt.mp q
      simp at this
      omega
    · show z.toInt = ((z.toInt.toNat : Nat) : Int)
      omega
  obtain ⟨s1, s2⟩ := nn sp p1
  obtain ⟨d1, d2⟩ := nn dp p2
  obtain ⟨n1, n2⟩ := nn n p3
  have hA := (cx_ar C (t := 21) (by decide) (by decide)).1
  obtain ⟨-, k0, hk0, cm0, hkk0⟩ := hA (ph_N h a0) (fun j => .long (ph_L h a0 j))
  obtain ⟨-, k1, hk1, cm1, hkk1⟩ := hA (ph_N h b0) (fun j => .long (ph_L h b0 j))
  have h4 : sp.toNatClampNeg + n.toNatClampNeg ≤ ph_N h a0 := by omega
  have h5 : dp.toNatClampNeg + n.toNatClampNeg ≤ ph_N h b0 := by omega
  have hnw : nativeFrameWords "java/lang/System" "arraycopy" 5 + 11 ≤ 32 := by decide
  intro T hT XX
  obtain ⟨vm', X', step⟩ := XX.arraycopy C.1 C.2.2.2.1 (cx_w C hl) (cx_w C hnat) (cx_w C hsta) (cx_w C hini) (src := gv_B G + (a0 - 64)) (dst := gv_B G + (b0 - 64)) (cs := vp_cell (gv_a G 21) (ph_N h a0, .inr (.inl (ph_L h a0)))) (cd := vp_cell (gv_a G 21) (ph_N h b0, .inr (.inl (ph_L h b0)))) (srcPos := sp) (destPos := dp) (n := n) (by rw [hT]; exact g2) (by rw [hT]; exact g4)
    (fun _ h => by cases h) (fun _ h => by cases h) (fun h => by cases h) (fun h => by cases h) hk0 hk1 hkk0 hkk1 (by simp [at_, refKind]) s1 d1 n1
    (by rw [s2, n2]; show ¬ _ > ((arrV (gv_a G 21) (ph_N h a0) (fun j => .long (ph_L h a0 j))).slots.size : Int); rw [arrV_size]; omega)
    (by rw [d2, n2]; show ¬ _ > ((arrV (gv_a G 21) (ph_N h b0) (fun j => .long (ph_L h b0 j))).slots.size : Int); rw [arrV_size]; omega)
    (fun vm₁ _ i hi => by
      have e : (vp_cell (gv_a G 21) (ph_N h a0, .inr (.inl (ph_L h a0)))).slots.getD (sp.toNatClampNeg + i) .null = .long (ph_L h a0 (sp.toNatClampNeg + i)) := by
        show (arrV (gv_a G 21) (ph_N h a0) (fun j => .long (ph_L h a0 j))).slots.getD _ _ = _
        rw [Array.getD_eq_getD_getElem?, arrV_read _ _ (by omega)]
        rfl
      refine ⟨?_, ?_⟩
      · rw [e]
        rfl
      · rw [e]
        exact trivial)
    (g := F0 (fx_m X) pc ls (.int n :: .int dp :: .ref (gv_B G + (b0 - 64)) :: .int sp :: .ref (gv_B G + (a0 - 64)) :: rest)) rfl (by rw [← a5.1]) (rest := rest) rfl (by rw [C.2.1]; exact hd) (by rw [Rm.1]; exact hf) (by rw [Rm.2]; show 2 * 0 + _ + _ ≤ _; omega)
  have e1 : copied (vp_cell (gv_a G 21) (ph_N h a0, .inr (.inl (ph_L h a0)))) (vp_cell (gv_a G 21) (ph_N h b0, .inr (.inl (ph_L h b0)))) sp dp n = vp_cell (gv_a G 21) (ph_N h b0, .inr (.inl (va_cpy (ph_L h a0) (ph_L h b0) sp.toNatClampNeg dp.toNatClampNeg n.toNatClampNeg))) := va_copied (fun z => .long z) (gv_a G 21) (gv_a G 21) (ph_L h a0) (ph_L h b0) h4
  rw [e1] at X' step
  have hl : gv_B G + (b0 - 64) < H.size := (Array.getElem?_eq_some_iff.mp g4).1
  generalize hW : vp_cell (gv_a G 21) (ph_N h b0, .inr (.inl (va_cpy (ph_L h a0) (ph_L h b0) sp.toNatClampNeg dp.toNatClampNeg n.toNatClampNeg))) = W at X' step
  have hheap : ((T.setVm vm').setCell (gv_B G + (b0 - 64)) W).heap = H.setIfInBounds (gv_B G + (b0 - 64)) W := by rw [← hT]; rfl
  have oq : ∀ q : Nat, q ≠ gv_B G + (b0 - 64) → (H.setIfInBounds (gv_B G + (b0 - 64)) W)[q]? = H[q]? := fun q hq => by simp [Array.getElem?_setIfInBounds, Ne.symm hq]
  have z : (H.setIfInBounds (gv_B G + (b0 - 64)) W).size = H.size := by simp
  have hP : PR G (ph_cL h a0 b0 sp.toNatClampNeg dp.toNatClampNeg n.toNatClampNeg) (H.setIfInBounds (gv_B G + (b0 - 64)) W) := by
    refine a3.put g3 (fun _ => rfl) (fun _ => rfl) rfl (fun _ _ => rfl) cL_Lb (fun _ _ => rfl) z oq ⟨fun q => ?_, fun _ _ => ?_⟩
    · have q' : ph_T h b0 < 20 := q
      rw [tb] at q'
      omega
    · have tb' : ph_T (ph_cL h a0 b0 sp.toNatClampNeg dp.toNatClampNeg n.toNatClampNeg) b0 = 21 := tb
      rw [va_hl tb', tb']
      rw [Array.getElem?_setIfInBounds_self_of_lt hl, ← hW]
      congr 3
      congr 2
      funext j
      simp [va_cpy, ph_cL, ph_L, ph_c]
  obtain ⟨t, b1, b2⟩ := K.2 X kx _ _ ls a1 a2 hP ⟨by rw [z]; exact a4.1, fun q g5 g6 => by
      rw [oq q (fun e => g6 (by rw [e]; exact Nat.le_add_right _ _))]
      exact a4.2.1 q g5 g6, fun q hq => by
      rcases List.mem_append.mp hq with h | h
      · exact a4.2.2 q h
      · obtain ⟨z, -, hz⟩ := List.mem_map.mp h
        rw [← hz]
        exact Nat.le_add_right _ _⟩ a5 _ hheap X'
  exact ⟨t, step t b1, b2⟩
